set_option maxRecDepth 100000
set_option maxHeartbeats 4000000
theorem ok_X0 : ∀ k, k < 49 → okT (k_ty 0 k) = true
  | 0, _ => rfl
  | 1, _ => rfl
  | 2, _ => rfl
  | 3, _ => rfl
  | 4, _ => rfl
  | 5, _ => rfl
  | 6, _ => rfl
  | 7, _ => rfl
  | 8, _ => rfl
  | 9, _ => rfl
  | 10, _ => rfl
  | 11, _ => rfl
  | 12, _ => rfl
  | 13, _ => rfl
  | 14, _ => rfl
  | 15, _ => rfl
  | 16, _ => rfl
  | 17, _ => rfl
  | 18, _ => rfl
  | 19, _ => rfl
  | 20, _ => rfl
  | 21, _ => rfl
  | 22, _ => rfl
  | 23, _ => rfl
  | 24, _ => rfl
  | 25, _ => rfl
  | 26, _ => rfl
  | 27, _ => rfl
  | 28, _ => rfl
  | 29, _ => rfl
  | 30, _ => rfl
  | 31, _ => rfl
  | 32, _ => rfl
  | 33, _ => rfl
  | 34, _ => rfl
  | 35, _ => rfl
  | 36, _ => rfl
  | 37, _ => rfl
  | 38, _ => rfl
  | 39, _ => rfl
  | 40, _ => rfl
  | 41, _ => rfl
  | 42, _ => rfl
  | 43, _ => rfl
  | 44, _ => rfl
  | 45, _ => rfl
  | 46, _ => rfl
  | 47, _ => rfl
  | 48, _ => rfl
  | k + 49, h => absurd h (by omega)
theorem ok_X1 : ∀ k, k < 7 → okT (k_ty 1 k) = true
  | 0, _ => rfl
  | 1, _ => rfl
  | 2, _ => rfl
  | 3, _ => rfl
  | 4, _ => rfl
  | 5, _ => rfl
  | 6, _ => rfl
  | k + 7, h => absurd h (by omega)
theorem ok_X2 : ∀ k, k < 17 → okT (k_ty 2 k) = true
  | 0, _ => rfl
  | 1, _ => rfl
  | 2, _ => rfl
  | 3, _ => rfl
  | 4, _ => rfl
  | 5, _ => rfl
  | 6, _ => rfl
  | 7, _ => rfl
  | 8, _ => rfl
  | 9, _ => rfl
  | 10, _ => rfl
  | 11, _ => rfl
  | 12, _ => rfl
  | 13, _ => rfl
  | 14, _ => rfl
  | 15, _ => rfl
  | 16, _ => rfl
  | k + 17, h => absurd h (by omega)
theorem ok_X3 : ∀ k, k < 7 → okT (k_ty 3 k) = true
  | 0, _ => rfl
  | 1, _ => rfl
  | 2, _ => rfl
  | 3, _ => rfl
  | 4, _ => rfl
  | 5, _ => rfl
  | 6, _ => rfl
  | k + 7, h => absurd h (by omega)
theorem ok_X4 : ∀ k, k < 16 → okT (k_ty 4 k) = true
  | 0, _ => rfl
  | 1, _ => rfl
  | 2, _ => rfl
  | 3, _ => rfl
  | 4, _ => rfl
  | 5, _ => rfl
  | 6, _ => rfl
  | 7, _ => rfl
  | 8, _ => rfl
  | 9, _ => rfl
  | 10, _ => rfl
  | 11, _ => rfl
  | 12, _ => rfl
  | 13, _ => rfl
  | 14, _ => rfl
  | 15, _ => rfl
  | k + 16, h => absurd h (by omega)
theorem ok_X5 : ∀ k, k < 4 → okT (k_ty 5 k) = true
  | 0, _ => rfl
  | 1, _ => rfl
  | 2, _ => rfl
  | 3, _ => rfl
  | k + 4, h => absurd h (by omega)
theorem ok_X6 : ∀ k, k < 8 → okT (k_ty 6 k) = true
  | 0, _ => rfl
  | 1, _ => rfl
  | 2, _ => rfl
  | 3, _ => rfl
  | 4, _ => rfl
  | 5, _ => rfl
  | 6, _ => rfl
  | 7, _ => rfl
  | k + 8, h => absurd h (by omega)
theorem ok_X7 : ∀ k, k < 3 → okT (k_ty 7 k) = true
  | 0, _ => rfl
  | 1, _ => rfl
  | 2, _ => rfl
  | k + 3, h => absurd h (by omega)
theorem ok_X8 : ∀ k, k < 54 → okT (k_ty 8 k) = true
  | 0, _ => rfl
  | 1, _ => rfl
  | 2, _ => rfl
  | 3, _ => rfl
  | 4, _ => rfl
  | 5, _ => rfl
  | 6, _ => rfl
  | 7, _ => rfl
  | 8, _ => rfl
  | 9, _ => rfl
  | 10, _ => rfl
  | 11, _ => rfl
  | 12, _ => rfl
  | 13, _ => rfl
  | 14, _ => rfl
  | 15, _ => rfl
  | 16, _ => rfl
  | 17, _ => rfl
  | 18, _ => rfl
  | 19, _ => rfl
  | 20, _ => rfl
  | 21, _ => rfl
  | 22, _ => rfl
  | 23, _ => rfl
  | 24, _ => rfl
  | 25, _ => rfl
  | 26, _ => rfl
  | 27, _ => rfl
  | 28, _ => rfl
  | 29, _ => rfl
  | 30, _ => rfl
  | 31, _ => rfl
  | 32, _ => rfl
  | 33, _ => rfl
  | 34, _ => rfl
  | 35, _ => rfl
  | 36, _ => rfl
  | 37, _ => rfl
  | 38, _ => rfl
  | 39, _ => rfl
  | 40, _ => rfl
  | 41, _ => rfl
  | 42, _ => rfl
  | 43, _ => rfl
  | 44, _ => rfl
  | 45, _ => rfl
  | 46, _ => rfl
  | 47, _ => rfl
  | 48, _ => rfl
  | 49, _ => rfl
  | 50, _ => rfl
  | 51, _ => rfl
  | 52, _ => rfl
  | 53, _ => rfl
  | k + 54, h => absurd h (by omega)
theorem ok_X9 : ∀ k, k < 10 → okT (k_ty 9 k) = true
  | 0, _ => rfl
  | 1, _ => rfl
  | 2, _ => rfl
  | 3, _ => rfl
  | 4, _ => rfl
  | 5, _ => rfl
  | 6, _ => rfl
  | 7, _ => rfl
  | 8, _ => rfl
  | 9, _ => rfl
  | k + 10, h => absurd h (by omega)
theorem ok_X10 : ∀ k, k < 6 → okT (k_ty 10 k) = true
  | 0, _ => rfl
  | 1, _ => rfl
  | 2, _ => rfl
  | 3, _ => rfl
  | 4, _ => rfl
  | 5, _ => rfl
  | k + 6, h => absurd h (by omega)
theorem ok_X11 : ∀ k, k < 172 → okT (k_ty 11 k) = true
  | 0, _ => rfl
  | 1, _ => rfl
  | 2, _ => rfl
  | 3, _ => rfl
  | 4, _ => rfl
  | 5, _ => rfl
  | 6, _ => rfl
  | 7, _ => rfl
  | 8, _ => rfl
  | 9, _ => rfl
  | 10, _ => rfl
  | 11, _ => rfl
  | 12, _ => rfl
  | 13, _ => rfl
  | 14, _ => rfl
  | 15, _ => rfl
  | 16, _ => rfl
  | 17, _ => rfl
  | 18, _ => rfl
  | 19, _ => rfl
  | 20, _ => rfl
  | 21, _ => rfl
  | 22, _ => rfl
  | 23, _ => rfl
  | 24, _ => rfl
  | 25, _ => rfl
  | 26, _ => rfl
  | 27, _ => rfl
  | 28, _ => rfl
  | 29, _ => rfl
  | 30, _ => rfl
  | 31, _ => rfl
  | 32, _ => rfl
  | 33, _ => rfl
  | 34, _ => rfl
  | 35, _ => rfl
  | 36, _ => rfl
  | 37, _ => rfl
  | 38, _ => rfl
  | 39, _ => rfl
  | 40, _ => rfl
  | 41, _ => rfl
  | 42, _ => rfl
  | 43, _ => rfl
  | 44, _ => rfl
  | 45, _ => rfl
  | 46, _ => rfl
  | 47, _ => rfl
  | 48, _ => rfl
  | 49, _ => rfl
  | 50, _ => rfl
  | 51, _ => rfl
  | 52, _ => rfl
  | 53, _ => rfl
  | 54, _ => rfl
  | 55, _ => rfl
  | 56, _ => rfl
  | 57, _ => rfl
  | 58, _ => rfl
  | 59, _ => rfl
  | 60, _ => rfl
  | 61, _ => rfl
  | 62, _ => rfl
  | 63, _ => rfl
  | 64, _ => rfl
  | 65, _ => rfl
  | 66, _ => rfl
  | 67, _ => rfl
  | 68, _ => rfl
  | 69, _ => rfl
  | 70, _ => rfl
  | 71, _ => rfl
  | 72, _ => rfl
  | 73, _ => rfl
  | 74, _ => rfl
  | 75, _ => rfl
  | 76, _ => rfl
  | 77, _ => rfl
  | 78, _ => rfl
  | 79, _ => rfl
  | 80, _ => rfl
  | 81, _ => rfl
  | 82, _ => rfl
  | 83, _ => rfl
  | 84, _ => rfl
  | 85, _ => rfl
  | 86, _ => rfl
  | 87, _ => rfl
  | 88, _ => rfl
  | 89, _ => rfl
  | 90, _ => rfl
  | 91, _ => rfl
  | 92, _ => rfl
  | 93, _ => rfl
  | 94, _ => rfl
  | 95, _ => rfl
  | 96, _ => rfl
  | 97, _ => rfl
  | 98, _ => rfl
  | 99, _ => rfl
  | 100, _ => rfl
  | 101, _ => rfl
  | 102, _ => rfl
  | 103, _ => rfl
  | 104, _ => rfl
  | 105, _ => rfl
  | 106, _ => rfl
  | 107, _ => rfl
  | 108, _ => rfl
  | 109, _ => rfl
  | 110, _ => rfl
  | 111, _ => rfl
  | 112, _ => rfl
  | 113, _ => rfl
  | 114, _ => rfl
  | 115, _ => rfl
  | 116, _ => rfl
  | 117, _ => rfl
  | 118, _ => rfl
  | 119, _ => rfl
  | 120, _ => rfl
  | 121, _ => rfl
  | 122, _ => rfl
  | 123, _ => rfl
  | 124, _ => rfl
  | 125, _ => rfl
  | 126, _ => rfl
  | 127, _ => rfl
  | 128, _ => rfl
  | 129, _ => rfl
  | 130, _ => rfl
  | 131, _ => rfl
  | 132, _ => rfl
  | 133, _ => rfl
  | 134, _ => rfl
  | 135, _ => rfl
  | 136, _ => rfl
  | 137, _ => rfl
  | 138, _ => rfl
  | 139, _ => rfl
  | 140, _ => rfl
  | 141, _ => rfl
  | 142, _ => rfl
  | 143, _ => rfl
  | 144, _ => rfl
  | 145, _ => rfl
  | 146, _ => rfl
  | 147, _ => rfl
  | 148, _ => rfl
  | 149, _ => rfl
  | 150, _ => rfl
  | 151, _ => rfl
  | 152, _ => rfl
  | 153, _ => rfl
  | 154, _ => rfl
  | 155, _ => rfl
  | 156, _ => rfl
  | 157, _ => rfl
  | 158, _ => rfl
  | 159, _ => rfl
  | 160, _ => rfl
  | 161, _ => rfl
  | 162, _ => rfl
  | 163, _ => rfl
  | 164, _ => rfl
  | 165, _ => rfl
  | 166, _ => rfl
  | 167, _ => rfl
  | 168, _ => rfl
  | 169, _ => rfl
  | 170, _ => rfl
  | 171, _ => rfl
  | k + 172, h => absurd h (by omega)
theorem ok_X13 : ∀ k, k < 14 → okT (k_ty 12 k) = true
  | 0, _ => rfl
  | 1, _ => rfl
  | 2, _ => rfl
  | 3, _ => rfl
  | 4, _ => rfl
  | 5, _ => rfl
  | 6, _ => rfl
  | 7, _ => rfl
  | 8, _ => rfl
  | 9, _ => rfl
  | 10, _ => rfl
  | 11, _ => rfl
  | 12, _ => rfl
  | 13, _ => rfl
  | k + 14, h => absurd h (by omega)
theorem ok_X14 : ∀ k, k < 8 → okT (k_ty 13 k) = true
  | 0, _ => rfl
  | 1, _ => rfl
  | 2, _ => rfl
  | 3, _ => rfl
  | 4, _ => rfl
  | 5, _ => rfl
  | 6, _ => rfl
  | 7, _ => rfl
  | k + 8, h => absurd h (by omega)
theorem ok_X15 : ∀ k, k < 8 → okT (k_ty 14 k) = true
  | 0, _ => rfl
  | 1, _ => rfl
  | 2, _ => rfl
  | 3, _ => rfl
  | 4, _ => rfl
  | 5, _ => rfl
  | 6, _ => rfl
  | 7, _ => rfl
  | k + 8, h => absurd h (by omega)
theorem fz_X1_9 : FL RX1 9 1 0 true := ⟨_, _, _, ci_X1, Nat.le_of_ble_eq_true rfl, rfl, (fun _ => rfl), Or.inl q323⟩
theorem fz_X1_15 : FL RX1 15 1 2 true := ⟨_, _, _, ci_X1, Nat.le_of_ble_eq_true rfl, rfl, (fun _ => rfl), Or.inl q326⟩
theorem fz_X1_18 : FL RX1 18 1 3 true := ⟨_, _, _, ci_X1, Nat.le_of_ble_eq_true rfl, rfl, (fun _ => rfl), Or.inl q327⟩
theorem fz_X1_21 : FL RX1 21 1 4 true := ⟨_, _, _, ci_X1, Nat.le_of_ble_eq_true rfl, rfl, (fun _ => rfl), Or.inl q328⟩
theorem fz_X1_24 : FL RX1 24 1 5 true := ⟨_, _, _, ci_X1, Nat.le_of_ble_eq_true rfl, rfl, (fun _ => rfl), Or.inl q329⟩
theorem cn_X3_1 : CN_ RX3 1 yJ2_init cJ2_init 5 4 := ⟨Or.inl q399, rfl, q400, q287, q401, ⟨by decide +kernel, by decide +kernel, by decide +kernel⟩⟩
theorem cn_X2_11 : CN_ RX2 11 yX3_init cX3_init 1 0 := ⟨Or.inl q396, rfl, q397, q288, q398, ⟨by decide +kernel, by decide +kernel, by decide +kernel⟩⟩
theorem fz_X2_12 : FL RX2 12 2 1 true := ⟨_, _, _, ci_X2, Nat.le_of_ble_eq_true rfl, rfl, (fun _ => rfl), Or.inl q482⟩
theorem fz_X2_18 : FL RX2 18 2 11 true := ⟨_, _, _, ci_X2, Nat.le_of_ble_eq_true rfl, rfl, (fun _ => rfl), Or.inl q492⟩
theorem fz_X2_22 : FL RX2 22 2 14 true := ⟨_, _, _, ci_X2, Nat.le_of_ble_eq_true rfl, rfl, (fun _ => rfl), Or.inl q495⟩
theorem fz_X2_26 : FL RX2 26 2 3 true := ⟨_, _, _, ci_X2, Nat.le_of_ble_eq_true rfl, rfl, (fun _ => rfl), Or.inl q484⟩
theorem fz_X2_30 : FL RX2 30 2 2 true := ⟨_, _, _, ci_X2, Nat.le_of_ble_eq_true rfl, rfl, (fun _ => rfl), Or.inl q483⟩
theorem fz_X2_146 : FL RX2 146 2 0 true := ⟨_, _, _, ci_X2, Nat.le_of_ble_eq_true rfl, rfl, (fun _ => rfl), Or.inl q481⟩
theorem fz_X5_9 : FL RX5 9 5 0 true := ⟨_, _, _, ci_X5, Nat.le_of_ble_eq_true rfl, rfl, (fun _ => rfl), Or.inl q546⟩
theorem fz_X4_9 : FL RX4 9 4 0 true := ⟨_, _, _, ci_X4, Nat.le_of_ble_eq_true rfl, rfl, (fun _ => rfl), Or.inl q608⟩
theorem cn_X4_17 : CN_ RX4 17 yX5_init cX5_init 1 0 := ⟨Or.inr ⟨_, List.mem_filter.mpr ⟨q542, rfl⟩⟩, rfl, q543, q290, q544, ⟨by decide +kernel, by decide +kernel, by decide +kernel⟩⟩
theorem fz_X4_18 : FL RX4 18 4 6 true := ⟨_, _, _, ci_X4, Nat.le_of_ble_eq_true rfl, rfl, (fun _ => rfl), Or.inl q626⟩
theorem fz_X4_22 : FL RX4 22 4 7 true := ⟨_, _, _, ci_X4, Nat.le_of_ble_eq_true rfl, rfl, (fun _ => rfl), Or.inl q629⟩
theorem fz_X4_25 : FL RX4 25 4 8 true := ⟨_, _, _, ci_X4, Nat.le_of_ble_eq_true rfl, rfl, (fun _ => rfl), Or.inl q632⟩
theorem fz_X4_28 : FL RX4 28 4 9 true := ⟨_, _, _, ci_X4, Nat.le_of_ble_eq_true rfl, rfl, (fun _ => rfl), Or.inl q634⟩
theorem fz_X4_31 : FL RX4 31 4 10 true := ⟨_, _, _, ci_X4, Nat.le_of_ble_eq_true rfl, rfl, (fun _ => rfl), Or.inl q636⟩
theorem fz_X4_34 : FL RX4 34 4 11 true := ⟨_, _, _, ci_X4, Nat.le_of_ble_eq_true rfl, rfl, (fun _ => rfl), Or.inl q638⟩
theorem fz_X4_37 : FL RX4 37 4 12 true := ⟨_, _, _, ci_X4, Nat.le_of_ble_eq_true rfl, rfl, (fun _ => rfl), Or.inl q640⟩
theorem fz_X4_43 : FL RX4 43 4 13 true := ⟨_, _, _, ci_X4, Nat.le_of_ble_eq_true rfl, rfl, (fun _ => rfl), Or.inl q642⟩
theorem fz_X4_47 : FL RX4 47 4 15 true := ⟨_, _, _, ci_X4, Nat.le_of_ble_eq_true rfl, rfl, (fun _ => rfl), Or.inl q648⟩
theorem cn_X4_50 : CN_ RX4 50 yX6_init cX6_init 1 0 := ⟨Or.inr ⟨_, List.mem_filter.mpr ⟨q567, rfl⟩⟩, rfl, q568, q291, q569, ⟨by decide +kernel, by decide +kernel, by decide +kernel⟩⟩
theorem fz_X7_7 : FL RX7 7 7 0 true := ⟨_, _, _, ci_X7, Nat.le_of_ble_eq_true rfl, rfl, (fun _ => rfl), Or.inl q688⟩
theorem fz_X7_13 : FL RX7 13 7 1 true := ⟨_, _, _, ci_X7, Nat.le_of_ble_eq_true rfl, rfl, (fun _ => rfl), Or.inl q689⟩
theorem fz_X7_16 : FL RX7 16 7 2 true := ⟨_, _, _, ci_X7, Nat.le_of_ble_eq_true rfl, rfl, (fun _ => rfl), Or.inl q690⟩
theorem fz_X8_9 : FL RX8 9 8 4 true := ⟨_, _, _, ci_X8, Nat.le_of_ble_eq_true rfl, rfl, (fun _ => rfl), Or.inl q726⟩
theorem fz_X8_17 : FL RX8 17 8 6 true := ⟨_, _, _, ci_X8, Nat.le_of_ble_eq_true rfl, rfl, (fun _ => rfl), Or.inl q729⟩
theorem fz_X8_20 : FL RX8 20 8 7 true := ⟨_, _, _, ci_X8, Nat.le_of_ble_eq_true rfl, rfl, (fun _ => rfl), Or.inl q730⟩
theorem fz_X8_26 : FL RX8 26 8 11 true := ⟨_, _, _, ci_X8, Nat.le_of_ble_eq_true rfl, rfl, (fun _ => rfl), Or.inl q737⟩
theorem fz_X8_29 : FL RX8 29 8 12 true := ⟨_, _, _, ci_X8, Nat.le_of_ble_eq_true rfl, rfl, (fun _ => rfl), Or.inl q738⟩
theorem fz_X8_33 : FL RX8 33 8 13 true := ⟨_, _, _, ci_X8, Nat.le_of_ble_eq_true rfl, rfl, (fun _ => rfl), Or.inl q739⟩
theorem fz_X8_39 : FL RX8 39 8 14 true := ⟨_, _, _, ci_X8, Nat.le_of_ble_eq_true rfl, rfl, (fun _ => rfl), Or.inl q741⟩
theorem fz_X8_42 : FL RX8 42 8 15 true := ⟨_, _, _, ci_X8, Nat.le_of_ble_eq_true rfl, rfl, (fun _ => rfl), Or.inl q743⟩
theorem fz_X8_45 : FL RX8 45 8 16 true := ⟨_, _, _, ci_X8, Nat.le_of_ble_eq_true rfl, rfl, (fun _ => rfl), Or.inl q745⟩
theorem fz_X8_48 : FL RX8 48 8 18 true := ⟨_, _, _, ci_X8, Nat.le_of_ble_eq_true rfl, rfl, (fun _ => rfl), Or.inl q749⟩
theorem fz_X8_51 : FL RX8 51 8 20 true := ⟨_, _, _, ci_X8, Nat.le_of_ble_eq_true rfl, rfl, (fun _ => rfl), Or.inl q753⟩
theorem fz_X8_54 : FL RX8 54 8 21 true := ⟨_, _, _, ci_X8, Nat.le_of_ble_eq_true rfl, rfl, (fun _ => rfl), Or.inl q755⟩
theorem fz_X8_57 : FL RX8 57 8 23 true := ⟨_, _, _, ci_X8, Nat.le_of_ble_eq_true rfl, rfl, (fun _ => rfl), Or.inl q758⟩
theorem fz_X8_60 : FL RX8 60 8 24 true := ⟨_, _, _, ci_X8, Nat.le_of_ble_eq_true rfl, rfl, (fun _ => rfl), Or.inl q759⟩
theorem fz_X8_63 : FL RX8 63 8 25 true := ⟨_, _, _, ci_X8, Nat.le_of_ble_eq_true rfl, rfl, (fun _ => rfl), Or.inl q760⟩
theorem fz_X8_66 : FL RX8 66 8 26 true := ⟨_, _, _, ci_X8, Nat.le_of_ble_eq_true rfl, rfl, (fun _ => rfl), Or.inl q761⟩
theorem fz_X8_69 : FL RX8 69 8 27 true := ⟨_, _, _, ci_X8, Nat.le_of_ble_eq_true rfl, rfl, (fun _ => rfl), Or.inl q762⟩
theorem fz_X8_72 : FL RX8 72 8 28 true := ⟨_, _, _, ci_X8, Nat.le_of_ble_eq_true rfl, rfl, (fun _ => rfl), Or.inl q763⟩
theorem fz_X8_75 : FL RX8 75 8 31 true := ⟨_, _, _, ci_X8, Nat.le_of_ble_eq_true rfl, rfl, (fun _ => rfl), Or.inl q766⟩
theorem fz_X8_78 : FL RX8 78 8 33 true := ⟨_, _, _, ci_X8, Nat.le_of_ble_eq_true rfl, rfl, (fun _ => rfl), Or.inl q768⟩
theorem fz_X8_83 : FL RX8 83 8 34 true := ⟨_, _, _, ci_X8, Nat.le_of_ble_eq_true rfl, rfl, (fun _ => rfl), Or.inl q769⟩
theorem fz_X8_86 : FL RX8 86 8 35 true := ⟨_, _, _, ci_X8, Nat.le_of_ble_eq_true rfl, rfl, (fun _ => rfl), Or.inl q770⟩
theorem fz_X8_89 : FL RX8 89 8 36 true := ⟨_, _, _, ci_X8, Nat.le_of_ble_eq_true rfl, rfl, (fun _ => rfl), Or.inl q771⟩
theorem fz_X8_92 : FL RX8 92 8 37 true := ⟨_, _, _, ci_X8, Nat.le_of_ble_eq_true rfl, rfl, (fun _ => rfl), Or.inl q772⟩
theorem fz_X8_95 : FL RX8 95 8 38 true := ⟨_, _, _, ci_X8, Nat.le_of_ble_eq_true rfl, rfl, (fun _ => rfl), Or.inl q773⟩
theorem fz_X8_98 : FL RX8 98 8 39 true := ⟨_, _, _, ci_X8, Nat.le_of_ble_eq_true rfl, rfl, (fun _ => rfl), Or.inl q774⟩
theorem fz_X8_101 : FL RX8 101 8 41 true := ⟨_, _, _, ci_X8, Nat.le_of_ble_eq_true rfl, rfl, (fun _ => rfl), Or.inl q776⟩
theorem fz_X8_104 : FL RX8 104 8 43 true := ⟨_, _, _, ci_X8, Nat.le_of_ble_eq_true rfl, rfl, (fun _ => rfl), Or.inl q778⟩
theorem fz_X8_107 : FL RX8 107 8 44 true := ⟨_, _, _, ci_X8, Nat.le_of_ble_eq_true rfl, rfl, (fun _ => rfl), Or.inl q779⟩
theorem fz_X8_110 : FL RX8 110 8 45 true := ⟨_, _, _, ci_X8, Nat.le_of_ble_eq_true rfl, rfl, (fun _ => rfl), Or.inl q780⟩
theorem fz_X8_113 : FL RX8 113 8 46 true := ⟨_, _, _, ci_X8, Nat.le_of_ble_eq_true rfl, rfl, (fun _ => rfl), Or.inl q781⟩
theorem fz_X8_116 : FL RX8 116 8 47 true := ⟨_, _, _, ci_X8, Nat.le_of_ble_eq_true rfl, rfl, (fun _ => rfl), Or.inl q782⟩
theorem fz_X8_119 : FL RX8 119 8 48 true := ⟨_, _, _, ci_X8, Nat.le_of_ble_eq_true rfl, rfl, (fun _ => rfl), Or.inl q783⟩
theorem fz_X8_122 : FL RX8 122 8 50 true := ⟨_, _, _, ci_X8, Nat.le_of_ble_eq_true rfl, rfl, (fun _ => rfl), Or.inl q785⟩
theorem fz_X8_125 : FL RX8 125 8 52 true := ⟨_, _, _, ci_X8, Nat.le_of_ble_eq_true rfl, rfl, (fun _ => rfl), Or.inl q787⟩
theorem fz_X8_128 : FL RX8 128 8 53 true := ⟨_, _, _, ci_X8, Nat.le_of_ble_eq_true rfl, rfl, (fun _ => rfl), Or.inl q788⟩
theorem fz_X9_9 : FL RX9 9 9 1 true := ⟨_, _, _, ci_X9, Nat.le_of_ble_eq_true rfl, rfl, (fun _ => rfl), Or.inl q907⟩
theorem fz_X9_15 : FL RX9 15 9 2 true := ⟨_, _, _, ci_X9, Nat.le_of_ble_eq_true rfl, rfl, (fun _ => rfl), Or.inl q909⟩
theorem fz_X9_18 : FL RX9 18 9 3 true := ⟨_, _, _, ci_X9, Nat.le_of_ble_eq_true rfl, rfl, (fun _ => rfl), Or.inl q912⟩
theorem fz_X9_21 : FL RX9 21 9 4 true := ⟨_, _, _, ci_X9, Nat.le_of_ble_eq_true rfl, rfl, (fun _ => rfl), Or.inl q915⟩
theorem fz_X9_24 : FL RX9 24 9 5 true := ⟨_, _, _, ci_X9, Nat.le_of_ble_eq_true rfl, rfl, (fun _ => rfl), Or.inl q917⟩
theorem fz_X9_28 : FL RX9 28 9 7 true := ⟨_, _, _, ci_X9, Nat.le_of_ble_eq_true rfl, rfl, (fun _ => rfl), Or.inl q923⟩
theorem fz_X9_31 : FL RX9 31 9 8 true := ⟨_, _, _, ci_X9, Nat.le_of_ble_eq_true rfl, rfl, (fun _ => rfl), Or.inl q925⟩
theorem fz_X10_9 : FL RX10 9 10 0 true := ⟨_, _, _, ci_X10, Nat.le_of_ble_eq_true rfl, rfl, (fun _ => rfl), Or.inl q957⟩
theorem fz_X10_17 : FL RX10 17 10 1 true := ⟨_, _, _, ci_X10, Nat.le_of_ble_eq_true rfl, rfl, (fun _ => rfl), Or.inl q959⟩
theorem fz_X10_20 : FL RX10 20 10 2 true := ⟨_, _, _, ci_X10, Nat.le_of_ble_eq_true rfl, rfl, (fun _ => rfl), Or.inl q961⟩
theorem fz_J0_7 : FL RJ0 7 3 3 false := ⟨_, _, _, ci_X3, Nat.le_of_ble_eq_true rfl, rfl, (fun h => by cases h), Or.inl q411⟩
theorem fz_J0_17 : FL RJ0 17 3 4 false := ⟨_, _, _, ci_X3, Nat.le_of_ble_eq_true rfl, rfl, (fun h => by cases h), Or.inl q412⟩
theorem fz_J0_24 : FL RJ0 24 3 6 false := ⟨_, _, _, ci_X3, Nat.le_of_ble_eq_true rfl, rfl, (fun h => by cases h), Or.inl q413⟩
theorem fz_J0_31 : FL RJ0 31 3 2 false := ⟨_, _, _, ci_X3, Nat.le_of_ble_eq_true rfl, rfl, (fun h => by cases h), Or.inl q410⟩
theorem cn_J1_16 : CN_ RJ1 16 yJ0_init_2 cJ0_init_2 5 4 := ⟨Or.inl q405, rfl, q406, q285, q407, ⟨by decide +kernel, by decide +kernel, by decide +kernel⟩⟩
theorem cn_J2_16 : CN_ RJ2 16 yJ1_init cJ1_init 5 4 := ⟨Or.inl q402, rfl, q403, q286, q404, ⟨by decide +kernel, by decide +kernel, by decide +kernel⟩⟩
theorem fz_X0_13 : FL RX0 13 0 0 true := ⟨_, _, _, ci_X0, Nat.le_of_ble_eq_true rfl, rfl, (fun _ => rfl), Or.inl q982⟩
theorem cn_X0_19 : CN_ RX0 19 yX1_init cX1_init 1 0 := ⟨Or.inr ⟨_, List.mem_filter.mpr ⟨q319, rfl⟩⟩, rfl, q320, q283, q321, ⟨by decide +kernel, by decide +kernel, by decide +kernel⟩⟩
theorem fz_X0_20 : FL RX0 20 0 3 true := ⟨_, _, _, ci_X0, Nat.le_of_ble_eq_true rfl, rfl, (fun _ => rfl), Or.inl q985⟩
theorem fz_X0_26 : FL RX0 26 0 4 true := ⟨_, _, _, ci_X0, Nat.le_of_ble_eq_true rfl, rfl, (fun _ => rfl), Or.inl q986⟩
theorem cn_X0_32 : CN_ RX0 32 yX2_init cX2_init 3 2 := ⟨Or.inl q353, rfl, q354, q284, q355, ⟨by decide +kernel, by decide +kernel, by decide +kernel⟩⟩
theorem fz_X0_35 : FL RX0 35 0 6 true := ⟨_, _, _, ci_X0, Nat.le_of_ble_eq_true rfl, rfl, (fun _ => rfl), Or.inl q988⟩
theorem cn_X0_41 : CN_ RX0 41 yX4_init cX4_init 2 0 := ⟨Or.inl q536, rfl, q537, q289, q538, ⟨by decide +kernel, by decide +kernel, by decide +kernel⟩⟩
theorem fz_X0_42 : FL RX0 42 0 7 false := ⟨_, _, _, ci_X0, Nat.le_of_ble_eq_true rfl, rfl, (fun h => by cases h), Or.inl q989⟩
theorem fz_X0_46 : FL RX0 46 0 8 false := ⟨_, _, _, ci_X0, Nat.le_of_ble_eq_true rfl, rfl, (fun h => by cases h), Or.inl q990⟩
theorem fz_X0_49 : FL RX0 49 0 10 false := ⟨_, _, _, ci_X0, Nat.le_of_ble_eq_true rfl, rfl, (fun h => by cases h), Or.inl q992⟩
theorem cn_X0_55 : CN_ RX0 55 yX7_init cX7_init 1 0 := ⟨Or.inr ⟨_, List.mem_filter.mpr ⟨q684, rfl⟩⟩, rfl, q685, q292, q686, ⟨by decide +kernel, by decide +kernel, by decide +kernel⟩⟩
theorem fz_X0_56 : FL RX0 56 0 11 true := ⟨_, _, _, ci_X0, Nat.le_of_ble_eq_true rfl, rfl, (fun _ => rfl), Or.inl q993⟩
theorem fz_X0_62 : FL RX0 62 0 13 true := ⟨_, _, _, ci_X0, Nat.le_of_ble_eq_true rfl, rfl, (fun _ => rfl), Or.inl q995⟩
theorem fz_X0_68 : FL RX0 68 0 14 true := ⟨_, _, _, ci_X0, Nat.le_of_ble_eq_true rfl, rfl, (fun _ => rfl), Or.inl q996⟩
theorem fz_X0_72 : FL RX0 72 0 16 true := ⟨_, _, _, ci_X0, Nat.le_of_ble_eq_true rfl, rfl, (fun _ => rfl), Or.inl q998⟩
theorem fz_X0_76 : FL RX0 76 0 18 true := ⟨_, _, _, ci_X0, Nat.le_of_ble_eq_true rfl, rfl, (fun _ => rfl), Or.inl q1000⟩
theorem fz_X0_79 : FL RX0 79 0 19 true := ⟨_, _, _, ci_X0, Nat.le_of_ble_eq_true rfl, rfl, (fun _ => rfl), Or.inl q1001⟩
theorem fz_X0_82 : FL RX0 82 0 20 true := ⟨_, _, _, ci_X0, Nat.le_of_ble_eq_true rfl, rfl, (fun _ => rfl), Or.inl q1002⟩
theorem fz_X0_86 : FL RX0 86 0 22 true := ⟨_, _, _, ci_X0, Nat.le_of_ble_eq_true rfl, rfl, (fun _ => rfl), Or.inl q1004⟩
theorem fz_X0_89 : FL RX0 89 0 23 true := ⟨_, _, _, ci_X0, Nat.le_of_ble_eq_true rfl, rfl, (fun _ => rfl), Or.inl q1005⟩
theorem fz_X0_92 : FL RX0 92 0 24 true := ⟨_, _, _, ci_X0, Nat.le_of_ble_eq_true rfl, rfl, (fun _ => rfl), Or.inl q1006⟩
theorem fz_X0_95 : FL RX0 95 0 25 true := ⟨_, _, _, ci_X0, Nat.le_of_ble_eq_true rfl, rfl, (fun _ => rfl), Or.inl q1007⟩
theorem fz_X0_98 : FL RX0 98 0 27 true := ⟨_, _, _, ci_X0, Nat.le_of_ble_eq_true rfl, rfl, (fun _ => rfl), Or.inl q1009⟩
theorem fz_X0_101 : FL RX0 101 0 28 true := ⟨_, _, _, ci_X0, Nat.le_of_ble_eq_true rfl, rfl, (fun _ => rfl), Or.inl q1010⟩
theorem fz_X0_106 : FL RX0 106 0 29 true := ⟨_, _, _, ci_X0, Nat.le_of_ble_eq_true rfl, rfl, (fun _ => rfl), Or.inl q1011⟩
theorem fz_X0_111 : FL RX0 111 0 31 true := ⟨_, _, _, ci_X0, Nat.le_of_ble_eq_true rfl, rfl, (fun _ => rfl), Or.inl q1013⟩
theorem fz_X0_115 : FL RX0 115 0 33 true := ⟨_, _, _, ci_X0, Nat.le_of_ble_eq_true rfl, rfl, (fun _ => rfl), Or.inl q1015⟩
theorem fz_X0_120 : FL RX0 120 0 34 true := ⟨_, _, _, ci_X0, Nat.le_of_ble_eq_true rfl, rfl, (fun _ => rfl), Or.inl q1016⟩
theorem cn_X0_126 : CN_ RX0 126 yX8_init cX8_init 1 0 := ⟨Or.inr ⟨_, List.mem_filter.mpr ⟨q710, rfl⟩⟩, rfl, q711, q293, q712, ⟨by decide +kernel, by decide +kernel, by decide +kernel⟩⟩
theorem fz_X0_127 : FL RX0 127 0 35 true := ⟨_, _, _, ci_X0, Nat.le_of_ble_eq_true rfl, rfl, (fun _ => rfl), Or.inl q1017⟩
theorem fz_X0_131 : FL RX0 131 0 36 true := ⟨_, _, _, ci_X0, Nat.le_of_ble_eq_true rfl, rfl, (fun _ => rfl), Or.inl q1018⟩
theorem fz_X0_134 : FL RX0 134 0 38 true := ⟨_, _, _, ci_X0, Nat.le_of_ble_eq_true rfl, rfl, (fun _ => rfl), Or.inl q1020⟩
theorem fz_X0_137 : FL RX0 137 0 39 true := ⟨_, _, _, ci_X0, Nat.le_of_ble_eq_true rfl, rfl, (fun _ => rfl), Or.inl q1021⟩
theorem fz_X0_140 : FL RX0 140 0 40 true := ⟨_, _, _, ci_X0, Nat.le_of_ble_eq_true rfl, rfl, (fun _ => rfl), Or.inl q1022⟩
theorem fz_X0_143 : FL RX0 143 0 41 true := ⟨_, _, _, ci_X0, Nat.le_of_ble_eq_true rfl, rfl, (fun _ => rfl), Or.inl q1023⟩
theorem fz_X0_148 : FL RX0 148 0 48 true := ⟨_, _, _, ci_X0, Nat.le_of_ble_eq_true rfl, rfl, (fun _ => rfl), Or.inl q1030⟩
theorem cn_X0_151 : CN_ RX0 151 yX9_init cX9_init 1 0 := ⟨Or.inr ⟨_, List.mem_filter.mpr ⟨q901, rfl⟩⟩, rfl, q902, q294, q903, ⟨by decide +kernel, by decide +kernel, by decide +kernel⟩⟩
theorem cn_X0_152 : CN_ RX0 152 yX10_init cX10_init 1 0 := ⟨Or.inr ⟨_, List.mem_filter.mpr ⟨q952, rfl⟩⟩, rfl, q953, q295, q954, ⟨by decide +kernel, by decide +kernel, by decide +kernel⟩⟩
theorem fz_X11_9 : FL RX11 9 11 0 true := ⟨_, _, _, ci_X11, Nat.le_of_ble_eq_true rfl, rfl, (fun _ => rfl), Or.inl q3345⟩
theorem fz_X11_64 : FL RX11 64 11 4 true := ⟨_, _, _, ci_X11, Nat.le_of_ble_eq_true rfl, rfl, (fun _ => rfl), Or.inl q3349⟩
theorem fz_X11_77 : FL RX11 77 11 6 true := ⟨_, _, _, ci_X11, Nat.le_of_ble_eq_true rfl, rfl, (fun _ => rfl), Or.inl q3351⟩
theorem fz_X11_80 : FL RX11 80 11 7 true := ⟨_, _, _, ci_X11, Nat.le_of_ble_eq_true rfl, rfl, (fun _ => rfl), Or.inl q3352⟩
theorem fz_X11_83 : FL RX11 83 11 8 true := ⟨_, _, _, ci_X11, Nat.le_of_ble_eq_true rfl, rfl, (fun _ => rfl), Or.inl q3353⟩
theorem fz_X11_86 : FL RX11 86 11 9 true := ⟨_, _, _, ci_X11, Nat.le_of_ble_eq_true rfl, rfl, (fun _ => rfl), Or.inl q3354⟩
theorem fz_X11_95 : FL RX11 95 11 11 true := ⟨_, _, _, ci_X11, Nat.le_of_ble_eq_true rfl, rfl, (fun _ => rfl), Or.inl q3356⟩
theorem fz_X11_98 : FL RX11 98 11 12 true := ⟨_, _, _, ci_X11, Nat.le_of_ble_eq_true rfl, rfl, (fun _ => rfl), Or.inl q3357⟩
theorem fz_X11_101 : FL RX11 101 11 13 true := ⟨_, _, _, ci_X11, Nat.le_of_ble_eq_true rfl, rfl, (fun _ => rfl), Or.inl q3358⟩
theorem fz_X11_104 : FL RX11 104 11 14 true := ⟨_, _, _, ci_X11, Nat.le_of_ble_eq_true rfl, rfl, (fun _ => rfl), Or.inl q3359⟩
theorem fz_X11_107 : FL RX11 107 11 15 true := ⟨_, _, _, ci_X11, Nat.le_of_ble_eq_true rfl, rfl, (fun _ => rfl), Or.inl q3360⟩
theorem fz_X11_115 : FL RX11 115 11 16 true := ⟨_, _, _, ci_X11, Nat.le_of_ble_eq_true rfl, rfl, (fun _ => rfl), Or.inl q3361⟩
theorem fz_X11_118 : FL RX11 118 11 17 true := ⟨_, _, _, ci_X11, Nat.le_of_ble_eq_true rfl, rfl, (fun _ => rfl), Or.inl q3362⟩
theorem fz_X11_121 : FL RX11 121 11 18 true := ⟨_, _, _, ci_X11, Nat.le_of_ble_eq_true rfl, rfl, (fun _ => rfl), Or.inl q3363⟩
theorem fz_X11_126 : FL RX11 126 11 19 true := ⟨_, _, _, ci_X11, Nat.le_of_ble_eq_true rfl, rfl, (fun _ => rfl), Or.inl q3364⟩
theorem fz_X11_129 : FL RX11 129 11 20 true := ⟨_, _, _, ci_X11, Nat.le_of_ble_eq_true rfl, rfl, (fun _ => rfl), Or.inl q3365⟩
theorem fz_X11_132 : FL RX11 132 11 21 true := ⟨_, _, _, ci_X11, Nat.le_of_ble_eq_true rfl, rfl, (fun _ => rfl), Or.inl q3366⟩
theorem fz_X11_135 : FL RX11 135 11 22 true := ⟨_, _, _, ci_X11, Nat.le_of_ble_eq_true rfl, rfl, (fun _ => rfl), Or.inl q3367⟩
theorem fz_X11_138 : FL RX11 138 11 23 true := ⟨_, _, _, ci_X11, Nat.le_of_ble_eq_true rfl, rfl, (fun _ => rfl), Or.inl q3368⟩
theorem fz_X11_167 : FL RX11 167 11 24 true := ⟨_, _, _, ci_X11, Nat.le_of_ble_eq_true rfl, rfl, (fun _ => rfl), Or.inl q3369⟩
theorem fz_X11_161 : FL RX11 161 11 25 true := ⟨_, _, _, ci_X11, Nat.le_of_ble_eq_true rfl, rfl, (fun _ => rfl), Or.inl q3370⟩
theorem fz_X11_185 : FL RX11 185 11 26 true := ⟨_, _, _, ci_X11, Nat.le_of_ble_eq_true rfl, rfl, (fun _ => rfl), Or.inl q3371⟩
theorem fz_X11_182 : FL RX11 182 11 27 true := ⟨_, _, _, ci_X11, Nat.le_of_ble_eq_true rfl, rfl, (fun _ => rfl), Or.inl q3372⟩
theorem fz_X11_287 : FL RX11 287 11 36 true := ⟨_, _, _, ci_X11, Nat.le_of_ble_eq_true rfl, rfl, (fun _ => rfl), Or.inl q3381⟩
theorem fz_X11_290 : FL RX11 290 11 37 true := ⟨_, _, _, ci_X11, Nat.le_of_ble_eq_true rfl, rfl, (fun _ => rfl), Or.inl q3382⟩
theorem fz_X11_310 : FL RX11 310 11 38 true := ⟨_, _, _, ci_X11, Nat.le_of_ble_eq_true rfl, rfl, (fun _ => rfl), Or.inl q3383⟩
theorem fz_X11_313 : FL RX11 313 11 39 true := ⟨_, _, _, ci_X11, Nat.le_of_ble_eq_true rfl, rfl, (fun _ => rfl), Or.inl q3384⟩
theorem fz_X11_316 : FL RX11 316 11 40 true := ⟨_, _, _, ci_X11, Nat.le_of_ble_eq_true rfl, rfl, (fun _ => rfl), Or.inl q3385⟩
theorem fz_X11_319 : FL RX11 319 11 41 true := ⟨_, _, _, ci_X11, Nat.le_of_ble_eq_true rfl, rfl, (fun _ => rfl), Or.inl q3386⟩
theorem fz_X11_322 : FL RX11 322 11 42 true := ⟨_, _, _, ci_X11, Nat.le_of_ble_eq_true rfl, rfl, (fun _ => rfl), Or.inl q3387⟩
theorem fz_X11_281 : FL RX11 281 11 43 true := ⟨_, _, _, ci_X11, Nat.le_of_ble_eq_true rfl, rfl, (fun _ => rfl), Or.inl q3388⟩
theorem fz_X11_284 : FL RX11 284 11 44 true := ⟨_, _, _, ci_X11, Nat.le_of_ble_eq_true rfl, rfl, (fun _ => rfl), Or.inl q3389⟩
theorem fz_X11_472 : FL RX11 472 11 48 false := ⟨_, _, _, ci_X11, Nat.le_of_ble_eq_true rfl, rfl, (fun h => by cases h), Or.inl q3393⟩
theorem fz_X11_497 : FL RX11 497 11 51 true := ⟨_, _, _, ci_X11, Nat.le_of_ble_eq_true rfl, rfl, (fun _ => rfl), Or.inl q3396⟩
theorem fz_X11_501 : FL RX11 501 11 52 true := ⟨_, _, _, ci_X11, Nat.le_of_ble_eq_true rfl, rfl, (fun _ => rfl), Or.inl q3397⟩
theorem fz_X11_504 : FL RX11 504 11 53 true := ⟨_, _, _, ci_X11, Nat.le_of_ble_eq_true rfl, rfl, (fun _ => rfl), Or.inl q3398⟩
theorem fz_X11_507 : FL RX11 507 11 54 true := ⟨_, _, _, ci_X11, Nat.le_of_ble_eq_true rfl, rfl, (fun _ => rfl), Or.inl q3399⟩
theorem fz_X11_575 : FL RX11 575 11 57 true := ⟨_, _, _, ci_X11, Nat.le_of_ble_eq_true rfl, rfl, (fun _ => rfl), Or.inl q3402⟩
theorem fz_X11_578 : FL RX11 578 11 58 true := ⟨_, _, _, ci_X11, Nat.le_of_ble_eq_true rfl, rfl, (fun _ => rfl), Or.inl q3403⟩
theorem fz_X11_584 : FL RX11 584 11 59 true := ⟨_, _, _, ci_X11, Nat.le_of_ble_eq_true rfl, rfl, (fun _ => rfl), Or.inl q3404⟩
theorem fz_X11_587 : FL RX11 587 11 60 true := ⟨_, _, _, ci_X11, Nat.le_of_ble_eq_true rfl, rfl, (fun _ => rfl), Or.inl q3405⟩
theorem fz_X11_590 : FL RX11 590 11 61 true := ⟨_, _, _, ci_X11, Nat.le_of_ble_eq_true rfl, rfl, (fun _ => rfl), Or.inl q3406⟩
theorem fz_X11_593 : FL RX11 593 11 62 true := ⟨_, _, _, ci_X11, Nat.le_of_ble_eq_true rfl, rfl, (fun _ => rfl), Or.inl q3407⟩
theorem fz_X11_596 : FL RX11 596 11 63 true := ⟨_, _, _, ci_X11, Nat.le_of_ble_eq_true rfl, rfl, (fun _ => rfl), Or.inl q3408⟩
theorem fz_X11_488 : FL RX11 488 11 65 true := ⟨_, _, _, ci_X11, Nat.le_of_ble_eq_true rfl, rfl, (fun _ => rfl), Or.inl q3410⟩
theorem fz_X11_608 : FL RX11 608 11 66 true := ⟨_, _, _, ci_X11, Nat.le_of_ble_eq_true rfl, rfl, (fun _ => rfl), Or.inl q3411⟩
theorem fz_X11_567 : FL RX11 567 11 67 true := ⟨_, _, _, ci_X11, Nat.le_of_ble_eq_true rfl, rfl, (fun _ => rfl), Or.inl q3412⟩
theorem fz_X11_611 : FL RX11 611 11 68 true := ⟨_, _, _, ci_X11, Nat.le_of_ble_eq_true rfl, rfl, (fun _ => rfl), Or.inl q3413⟩
theorem fz_X11_614 : FL RX11 614 11 69 true := ⟨_, _, _, ci_X11, Nat.le_of_ble_eq_true rfl, rfl, (fun _ => rfl), Or.inl q3414⟩
theorem fz_X11_546 : FL RX11 546 11 70 true := ⟨_, _, _, ci_X11, Nat.le_of_ble_eq_true rfl, rfl, (fun _ => rfl), Or.inl q3415⟩
theorem fz_X11_599 : FL RX11 599 11 72 true := ⟨_, _, _, ci_X11, Nat.le_of_ble_eq_true rfl, rfl, (fun _ => rfl), Or.inl q3417⟩
theorem fz_X11_602 : FL RX11 602 11 73 true := ⟨_, _, _, ci_X11, Nat.le_of_ble_eq_true rfl, rfl, (fun _ => rfl), Or.inl q3418⟩
theorem fz_X11_605 : FL RX11 605 11 74 true := ⟨_, _, _, ci_X11, Nat.le_of_ble_eq_true rfl, rfl, (fun _ => rfl), Or.inl q3419⟩
theorem fz_X11_623 : FL RX11 623 11 76 true := ⟨_, _, _, ci_X11, Nat.le_of_ble_eq_true rfl, rfl, (fun _ => rfl), Or.inl q3421⟩
theorem fz_X11_626 : FL RX11 626 11 77 true := ⟨_, _, _, ci_X11, Nat.le_of_ble_eq_true rfl, rfl, (fun _ => rfl), Or.inl q3422⟩
theorem fz_X11_629 : FL RX11 629 11 78 true := ⟨_, _, _, ci_X11, Nat.le_of_ble_eq_true rfl, rfl, (fun _ => rfl), Or.inl q3423⟩
theorem fz_X11_649 : FL RX11 649 11 80 true := ⟨_, _, _, ci_X11, Nat.le_of_ble_eq_true rfl, rfl, (fun _ => rfl), Or.inl q3425⟩
theorem fz_X11_652 : FL RX11 652 11 81 true := ⟨_, _, _, ci_X11, Nat.le_of_ble_eq_true rfl, rfl, (fun _ => rfl), Or.inl q3426⟩
theorem fz_X11_691 : FL RX11 691 11 83 true := ⟨_, _, _, ci_X11, Nat.le_of_ble_eq_true rfl, rfl, (fun _ => rfl), Or.inl q3428⟩
theorem fz_X11_661 : FL RX11 661 11 84 true := ⟨_, _, _, ci_X11, Nat.le_of_ble_eq_true rfl, rfl, (fun _ => rfl), Or.inl q3429⟩
theorem fz_X11_658 : FL RX11 658 11 85 true := ⟨_, _, _, ci_X11, Nat.le_of_ble_eq_true rfl, rfl, (fun _ => rfl), Or.inl q3430⟩
theorem fz_X11_673 : FL RX11 673 11 86 true := ⟨_, _, _, ci_X11, Nat.le_of_ble_eq_true rfl, rfl, (fun _ => rfl), Or.inl q3431⟩
theorem fz_X11_667 : FL RX11 667 11 87 true := ⟨_, _, _, ci_X11, Nat.le_of_ble_eq_true rfl, rfl, (fun _ => rfl), Or.inl q3432⟩
theorem fz_X11_697 : FL RX11 697 11 88 true := ⟨_, _, _, ci_X11, Nat.le_of_ble_eq_true rfl, rfl, (fun _ => rfl), Or.inl q3433⟩
theorem fz_X11_664 : FL RX11 664 11 89 true := ⟨_, _, _, ci_X11, Nat.le_of_ble_eq_true rfl, rfl, (fun _ => rfl), Or.inl q3434⟩
theorem fz_X11_722 : FL RX11 722 11 90 true := ⟨_, _, _, ci_X11, Nat.le_of_ble_eq_true rfl, rfl, (fun _ => rfl), Or.inl q3435⟩
theorem fz_X11_725 : FL RX11 725 11 91 true := ⟨_, _, _, ci_X11, Nat.le_of_ble_eq_true rfl, rfl, (fun _ => rfl), Or.inl q3436⟩
theorem fz_X11_679 : FL RX11 679 11 92 true := ⟨_, _, _, ci_X11, Nat.le_of_ble_eq_true rfl, rfl, (fun _ => rfl), Or.inl q3437⟩
theorem fz_X11_549 : FL RX11 549 11 93 true := ⟨_, _, _, ci_X11, Nat.le_of_ble_eq_true rfl, rfl, (fun _ => rfl), Or.inl q3438⟩
theorem fz_X11_740 : FL RX11 740 11 94 true := ⟨_, _, _, ci_X11, Nat.le_of_ble_eq_true rfl, rfl, (fun _ => rfl), Or.inl q3439⟩
theorem fz_X11_552 : FL RX11 552 11 95 true := ⟨_, _, _, ci_X11, Nat.le_of_ble_eq_true rfl, rfl, (fun _ => rfl), Or.inl q3440⟩
theorem fz_X11_555 : FL RX11 555 11 96 true := ⟨_, _, _, ci_X11, Nat.le_of_ble_eq_true rfl, rfl, (fun _ => rfl), Or.inl q3441⟩
theorem fz_X11_764 : FL RX11 764 11 101 true := ⟨_, _, _, ci_X11, Nat.le_of_ble_eq_true rfl, rfl, (fun _ => rfl), Or.inl q3446⟩
theorem fz_X11_780 : FL RX11 780 11 105 true := ⟨_, _, _, ci_X11, Nat.le_of_ble_eq_true rfl, rfl, (fun _ => rfl), Or.inl q3450⟩
theorem fz_X11_792 : FL RX11 792 11 106 true := ⟨_, _, _, ci_X11, Nat.le_of_ble_eq_true rfl, rfl, (fun _ => rfl), Or.inl q3451⟩
theorem fz_X11_789 : FL RX11 789 11 107 true := ⟨_, _, _, ci_X11, Nat.le_of_ble_eq_true rfl, rfl, (fun _ => rfl), Or.inl q3452⟩
theorem fz_X11_801 : FL RX11 801 11 108 true := ⟨_, _, _, ci_X11, Nat.le_of_ble_eq_true rfl, rfl, (fun _ => rfl), Or.inl q3453⟩
theorem fz_X11_805 : FL RX11 805 11 109 true := ⟨_, _, _, ci_X11, Nat.le_of_ble_eq_true rfl, rfl, (fun _ => rfl), Or.inl q3454⟩
theorem fz_X11_814 : FL RX11 814 11 117 true := ⟨_, _, _, ci_X11, Nat.le_of_ble_eq_true rfl, rfl, (fun _ => rfl), Or.inl q3462⟩
theorem fz_X11_820 : FL RX11 820 11 118 true := ⟨_, _, _, ci_X11, Nat.le_of_ble_eq_true rfl, rfl, (fun _ => rfl), Or.inl q3463⟩
theorem fz_X11_823 : FL RX11 823 11 119 true := ⟨_, _, _, ci_X11, Nat.le_of_ble_eq_true rfl, rfl, (fun _ => rfl), Or.inl q3464⟩
theorem fz_X11_826 : FL RX11 826 11 121 true := ⟨_, _, _, ci_X11, Nat.le_of_ble_eq_true rfl, rfl, (fun _ => rfl), Or.inl q3466⟩
theorem fz_X11_896 : FL RX11 896 11 123 true := ⟨_, _, _, ci_X11, Nat.le_of_ble_eq_true rfl, rfl, (fun _ => rfl), Or.inl q3468⟩
theorem fz_X11_893 : FL RX11 893 11 124 true := ⟨_, _, _, ci_X11, Nat.le_of_ble_eq_true rfl, rfl, (fun _ => rfl), Or.inl q3469⟩
theorem fz_X11_899 : FL RX11 899 11 125 true := ⟨_, _, _, ci_X11, Nat.le_of_ble_eq_true rfl, rfl, (fun _ => rfl), Or.inl q3470⟩
theorem fz_X11_909 : FL RX11 909 11 126 true := ⟨_, _, _, ci_X11, Nat.le_of_ble_eq_true rfl, rfl, (fun _ => rfl), Or.inl q3471⟩
theorem fz_X11_956 : FL RX11 956 11 127 true := ⟨_, _, _, ci_X11, Nat.le_of_ble_eq_true rfl, rfl, (fun _ => rfl), Or.inl q3472⟩
theorem fz_X11_953 : FL RX11 953 11 128 true := ⟨_, _, _, ci_X11, Nat.le_of_ble_eq_true rfl, rfl, (fun _ => rfl), Or.inl q3473⟩
theorem fz_X11_950 : FL RX11 950 11 129 true := ⟨_, _, _, ci_X11, Nat.le_of_ble_eq_true rfl, rfl, (fun _ => rfl), Or.inl q3474⟩
theorem fz_X11_939 : FL RX11 939 11 130 true := ⟨_, _, _, ci_X11, Nat.le_of_ble_eq_true rfl, rfl, (fun _ => rfl), Or.inl q3475⟩
theorem fz_X11_979 : FL RX11 979 11 131 true := ⟨_, _, _, ci_X11, Nat.le_of_ble_eq_true rfl, rfl, (fun _ => rfl), Or.inl q3476⟩
theorem fz_X11_998 : FL RX11 998 11 132 true := ⟨_, _, _, ci_X11, Nat.le_of_ble_eq_true rfl, rfl, (fun _ => rfl), Or.inl q3477⟩
theorem fz_X11_1025 : FL RX11 1025 11 133 true := ⟨_, _, _, ci_X11, Nat.le_of_ble_eq_true rfl, rfl, (fun _ => rfl), Or.inl q3478⟩
theorem fz_X11_1022 : FL RX11 1022 11 134 true := ⟨_, _, _, ci_X11, Nat.le_of_ble_eq_true rfl, rfl, (fun _ => rfl), Or.inl q3479⟩
theorem fz_X11_1031 : FL RX11 1031 11 135 true := ⟨_, _, _, ci_X11, Nat.le_of_ble_eq_true rfl, rfl, (fun _ => rfl), Or.inl q3480⟩
theorem fz_X11_1034 : FL RX11 1034 11 136 true := ⟨_, _, _, ci_X11, Nat.le_of_ble_eq_true rfl, rfl, (fun _ => rfl), Or.inl q3481⟩
theorem fz_X11_1069 : FL RX11 1069 11 138 true := ⟨_, _, _, ci_X11, Nat.le_of_ble_eq_true rfl, rfl, (fun _ => rfl), Or.inl q3483⟩
theorem fz_X11_1057 : FL RX11 1057 11 139 true := ⟨_, _, _, ci_X11, Nat.le_of_ble_eq_true rfl, rfl, (fun _ => rfl), Or.inl q3484⟩
theorem fz_X11_1063 : FL RX11 1063 11 140 true := ⟨_, _, _, ci_X11, Nat.le_of_ble_eq_true rfl, rfl, (fun _ => rfl), Or.inl q3485⟩
theorem fz_X11_1060 : FL RX11 1060 11 141 true := ⟨_, _, _, ci_X11, Nat.le_of_ble_eq_true rfl, rfl, (fun _ => rfl), Or.inl q3486⟩
theorem fz_X11_1072 : FL RX11 1072 11 142 true := ⟨_, _, _, ci_X11, Nat.le_of_ble_eq_true rfl, rfl, (fun _ => rfl), Or.inl q3487⟩
theorem fz_X11_1075 : FL RX11 1075 11 143 true := ⟨_, _, _, ci_X11, Nat.le_of_ble_eq_true rfl, rfl, (fun _ => rfl), Or.inl q3488⟩
theorem fz_X11_1091 : FL RX11 1091 11 144 true := ⟨_, _, _, ci_X11, Nat.le_of_ble_eq_true rfl, rfl, (fun _ => rfl), Or.inl q3489⟩
theorem fz_X11_1106 : FL RX11 1106 11 145 true := ⟨_, _, _, ci_X11, Nat.le_of_ble_eq_true rfl, rfl, (fun _ => rfl), Or.inl q3490⟩
theorem fz_X11_1066 : FL RX11 1066 11 146 true := ⟨_, _, _, ci_X11, Nat.le_of_ble_eq_true rfl, rfl, (fun _ => rfl), Or.inl q3491⟩
theorem fz_X11_1097 : FL RX11 1097 11 147 true := ⟨_, _, _, ci_X11, Nat.le_of_ble_eq_true rfl, rfl, (fun _ => rfl), Or.inl q3492⟩
theorem fz_X11_1045 : FL RX11 1045 11 149 true := ⟨_, _, _, ci_X11, Nat.le_of_ble_eq_true rfl, rfl, (fun _ => rfl), Or.inl q3494⟩
theorem fz_X11_1048 : FL RX11 1048 11 150 true := ⟨_, _, _, ci_X11, Nat.le_of_ble_eq_true rfl, rfl, (fun _ => rfl), Or.inl q3495⟩
theorem fz_X11_1123 : FL RX11 1123 11 151 true := ⟨_, _, _, ci_X11, Nat.le_of_ble_eq_true rfl, rfl, (fun _ => rfl), Or.inl q3496⟩
theorem fz_X11_1126 : FL RX11 1126 11 154 true := ⟨_, _, _, ci_X11, Nat.le_of_ble_eq_true rfl, rfl, (fun _ => rfl), Or.inl q3499⟩
theorem fz_X11_1129 : FL RX11 1129 11 155 true := ⟨_, _, _, ci_X11, Nat.le_of_ble_eq_true rfl, rfl, (fun _ => rfl), Or.inl q3500⟩
theorem fz_X11_1132 : FL RX11 1132 11 156 true := ⟨_, _, _, ci_X11, Nat.le_of_ble_eq_true rfl, rfl, (fun _ => rfl), Or.inl q3501⟩
theorem fz_X11_1135 : FL RX11 1135 11 162 true := ⟨_, _, _, ci_X11, Nat.le_of_ble_eq_true rfl, rfl, (fun _ => rfl), Or.inl q3507⟩
theorem fz_X11_1138 : FL RX11 1138 11 163 true := ⟨_, _, _, ci_X11, Nat.le_of_ble_eq_true rfl, rfl, (fun _ => rfl), Or.inl q3508⟩
theorem fz_X11_1141 : FL RX11 1141 11 164 true := ⟨_, _, _, ci_X11, Nat.le_of_ble_eq_true rfl, rfl, (fun _ => rfl), Or.inl q3509⟩
theorem fz_X11_1144 : FL RX11 1144 11 166 true := ⟨_, _, _, ci_X11, Nat.le_of_ble_eq_true rfl, rfl, (fun _ => rfl), Or.inl q3511⟩
theorem fz_X11_1147 : FL RX11 1147 11 167 true := ⟨_, _, _, ci_X11, Nat.le_of_ble_eq_true rfl, rfl, (fun _ => rfl), Or.inl q3512⟩
theorem fz_X11_1150 : FL RX11 1150 11 168 true := ⟨_, _, _, ci_X11, Nat.le_of_ble_eq_true rfl, rfl, (fun _ => rfl), Or.inl q3513⟩
theorem fz_X11_1153 : FL RX11 1153 11 169 true := ⟨_, _, _, ci_X11, Nat.le_of_ble_eq_true rfl, rfl, (fun _ => rfl), Or.inl q3514⟩
theorem fz_X11_1220 : FL RX11 1220 11 170 true := ⟨_, _, _, ci_X11, Nat.le_of_ble_eq_true rfl, rfl, (fun _ => rfl), Or.inl q3515⟩
theorem fz_X11_1231 : FL RX11 1231 11 171 true := ⟨_, _, _, ci_X11, Nat.le_of_ble_eq_true rfl, rfl, (fun _ => rfl), Or.inl q3516⟩
theorem fz_X13_12 : FL RX13 12 12 4 false := ⟨_, _, _, ci_X13, Nat.le_of_ble_eq_true rfl, rfl, (fun h => by cases h), Or.inl q1231⟩
theorem fz_X13_18 : FL RX13 18 12 6 true := ⟨_, _, _, ci_X13, Nat.le_of_ble_eq_true rfl, rfl, (fun _ => rfl), Or.inl q1234⟩
theorem fz_X13_22 : FL RX13 22 12 7 true := ⟨_, _, _, ci_X13, Nat.le_of_ble_eq_true rfl, rfl, (fun _ => rfl), Or.inl q1235⟩
theorem fz_X13_25 : FL RX13 25 12 9 true := ⟨_, _, _, ci_X13, Nat.le_of_ble_eq_true rfl, rfl, (fun _ => rfl), Or.inl q1238⟩
theorem fz_X13_28 : FL RX13 28 12 10 true := ⟨_, _, _, ci_X13, Nat.le_of_ble_eq_true rfl, rfl, (fun _ => rfl), Or.inl q1239⟩
theorem fz_X13_31 : FL RX13 31 12 11 true := ⟨_, _, _, ci_X13, Nat.le_of_ble_eq_true rfl, rfl, (fun _ => rfl), Or.inl q1240⟩
theorem fz_X13_34 : FL RX13 34 12 12 true := ⟨_, _, _, ci_X13, Nat.le_of_ble_eq_true rfl, rfl, (fun _ => rfl), Or.inl q1241⟩
theorem fz_X13_37 : FL RX13 37 12 0 true := ⟨_, _, _, ci_X13, Nat.le_of_ble_eq_true rfl, rfl, (fun _ => rfl), Or.inl q1226⟩
theorem fz_X13_40 : FL RX13 40 12 1 true := ⟨_, _, _, ci_X13, Nat.le_of_ble_eq_true rfl, rfl, (fun _ => rfl), Or.inl q1227⟩
theorem fz_X13_43 : FL RX13 43 12 2 true := ⟨_, _, _, ci_X13, Nat.le_of_ble_eq_true rfl, rfl, (fun _ => rfl), Or.inl q1228⟩
theorem fz_X13_50 : FL RX13 50 12 3 true := ⟨_, _, _, ci_X13, Nat.le_of_ble_eq_true rfl, rfl, (fun _ => rfl), Or.inl q1229⟩
theorem fz_X14_9 : FL RX14 9 13 7 false := ⟨_, _, _, ci_X14, Nat.le_of_ble_eq_true rfl, rfl, (fun h => by cases h), Or.inl q1661⟩
theorem fz_X14_15 : FL RX14 15 13 0 true := ⟨_, _, _, ci_X14, Nat.le_of_ble_eq_true rfl, rfl, (fun _ => rfl), Or.inl q1649⟩
theorem fz_X14_18 : FL RX14 18 13 1 true := ⟨_, _, _, ci_X14, Nat.le_of_ble_eq_true rfl, rfl, (fun _ => rfl), Or.inl q1651⟩
theorem fz_X14_21 : FL RX14 21 13 2 true := ⟨_, _, _, ci_X14, Nat.le_of_ble_eq_true rfl, rfl, (fun _ => rfl), Or.inl q1654⟩
theorem fz_X15_9 : FL RX15 9 14 7 true := ⟨_, _, _, ci_X15, Nat.le_of_ble_eq_true rfl, rfl, (fun _ => rfl), Or.inl q1872⟩
theorem fz_X15_15 : FL RX15 15 14 0 true := ⟨_, _, _, ci_X15, Nat.le_of_ble_eq_true rfl, rfl, (fun _ => rfl), Or.inl q1860⟩
theorem fz_X15_19 : FL RX15 19 14 1 true := ⟨_, _, _, ci_X15, Nat.le_of_ble_eq_true rfl, rfl, (fun _ => rfl), Or.inl q1861⟩
theorem fz_X15_22 : FL RX15 22 14 2 true := ⟨_, _, _, ci_X15, Nat.le_of_ble_eq_true rfl, rfl, (fun _ => rfl), Or.inl q1863⟩
theorem fz_X15_25 : FL RX15 25 14 4 true := ⟨_, _, _, ci_X15, Nat.le_of_ble_eq_true rfl, rfl, (fun _ => rfl), Or.inl q1867⟩
theorem fz_X15_28 : FL RX15 28 14 3 true := ⟨_, _, _, ci_X15, Nat.le_of_ble_eq_true rfl, rfl, (fun _ => rfl), Or.inl q1865⟩
theorem cn_X0_207 : CN_ RX0 207 yX13_init cX13_init 4 3 := ⟨Or.inl q1218, rfl, q1219, q300, q1220, ⟨by decide +kernel, by decide +kernel, by decide +kernel⟩⟩
theorem cn_X0_348 : CN_ RX0 348 yX14_init cX14_init 4 3 := ⟨Or.inl q1645, rfl, q1646, q307, q1647, ⟨by decide +kernel, by decide +kernel, by decide +kernel⟩⟩
theorem cn_X0_487 : CN_ RX0 487 yX15_init cX15_init 6 5 := ⟨Or.inl q1856, rfl, q1857, q308, q1858, ⟨by decide +kernel, by decide +kernel, by decide +kernel⟩⟩
def WSJ0_init_2 : List (Int × Int × Int × Int) := [(0, 4, 0, 0), (0, 2, 0, 0), (0, 3, 0, 0), (0, 6, 0, 0)]
theorem vm_J0_init_2 {w : Wd} {l : Launch} {d m : Dt} {o : Int} (obm : OB m o 3) : VM w l XT yJ0_init_2 cJ0_init_2 5 none 1 20 0 0 d m [mA o, mA 0, mA 0, mI 0, mI 0] none (wr o WSJ0_init_2 d) m := by
  have ho := obm.1
  refine VM.of (L := [mA o, mA 0, mA 0, mI 0, mI 0]) (by decide +kernel) rfl (Nat.le_of_ble_eq_true rfl) fun G F hnm => ?_
  refine v_aload_n F dJ0_init_2_0 rfl rfl ?_
  refine v_objI F obm.1 dJ0_init_2_1 q382 q315 q316 (Nat.le_of_ble_eq_true rfl) (Nat.le_of_ble_eq_true rfl) (Nat.le_of_ble_eq_true rfl) ?_
  refine v_aload_n F dJ0_init_2_4 rfl rfl ?_
  refine v_aload_n F dJ0_init_2_5 rfl rfl ?_
  refine cpA F fz_J0_7 (fun h => by cases h) dJ0_init_2_6 obm rfl rfl ?_
  obtain ⟨d1, ed1⟩ : ∃ z, z = st d o 3 o := ⟨_, rfl⟩
  refine v_nD ed1 ?_
  refine v_aload_n F dJ0_init_2_9 rfl rfl ?_
  obtain ⟨v1, hzv1⟩ := F.2.2.2.2.2.1.2.2.2.2.2.2.2.2.2.2.1
  refine v_gst (v := mA v1) F dJ0_init_2_10 q383 hzv1 trivial ?_
  refine cpA F fz_J0_17 (fun h => by cases h) dJ0_init_2_13 obm rfl rfl ?_
  obtain ⟨d2, ed2⟩ : ∃ z, z = st d1 o 4 v1 := ⟨_, rfl⟩
  refine v_nD ed2 ?_
  refine v_aload_n F dJ0_init_2_16 rfl rfl ?_
  obtain ⟨v2, hzv2⟩ := F.2.2.2.2.2.1.2.2.2.2.2.2.2.2.2.2.2
  refine v_gst (v := mA v2) F dJ0_init_2_17 q385 hzv2 trivial ?_
  refine cpA F fz_J0_24 (fun h => by cases h) dJ0_init_2_20 obm rfl rfl ?_
  obtain ⟨d3, ed3⟩ : ∃ z, z = st d2 o 6 v2 := ⟨_, rfl⟩
  refine v_nD ed3 ?_
  refine v_iload F dJ0_init_2_23 rfl ?_
  refine v_if_eq F dJ0_init_2_25 rfl (fun _ => ?_) (fun h => absurd (show (0 : Int) = 0 from rfl) h)
  refine v_aload_n F dJ0_init_2_36 rfl rfl ?_
  refine v_null F dJ0_init_2_37 ?_
  refine cpA F fz_J0_17 (fun h => by cases h) dJ0_init_2_38 obm rfl rfl ?_
  obtain ⟨d4, ed4⟩ : ∃ z, z = st d3 o 4 0 := ⟨_, rfl⟩
  refine v_nD ed4 ?_
  refine v_aload_n F dJ0_init_2_41 rfl rfl ?_
  refine v_aload_n F dJ0_init_2_42 rfl rfl ?_
  refine cpA F fz_J0_31 (fun h => by cases h) dJ0_init_2_43 obm rfl rfl ?_
  obtain ⟨d5, ed5⟩ : ∃ z, z = st d4 o 2 0 := ⟨_, rfl⟩
  refine v_nD ed5 ?_
  refine v_aload_n F dJ0_init_2_46 rfl rfl ?_
  refine v_aload_n F dJ0_init_2_47 rfl rfl ?_
  refine cpA F fz_J0_7 (fun h => by cases h) dJ0_init_2_48 obm rfl rfl ?_
  obtain ⟨d6, ed6⟩ : ∃ z, z = st d5 o 3 0 := ⟨_, rfl⟩
  refine v_nD ed6 ?_
  refine v_iload_n F dJ0_init_2_51 rfl rfl ?_
  refine v_if_ne F dJ0_init_2_52 rfl (fun h => absurd (show (0 : Int) = 0 from rfl) h) (fun _ => ?_)
  refine v_aload_n F dJ0_init_2_55 rfl rfl ?_
  refine v_null F dJ0_init_2_56 ?_
  refine cpA F fz_J0_24 (fun h => by cases h) dJ0_init_2_57 obm rfl rfl ?_
  obtain ⟨d7, ed7⟩ : ∃ z, z = st d6 o 6 0 := ⟨_, rfl⟩
  refine v_nD ed7 ?_
  have ed : d7 = wr o WSJ0_init_2 d := by
    rw [ed7, ed6, ed5, ed4, ed3, ed2, ed1]
    show _ = st (st (st (st d o 4 0) o 2 0) o 3 0) o 6 0
    funext x y
    by_cases h6 : x = o ∧ y = 6 <;> by_cases h3 : x = o ∧ y = 3 <;> by_cases h4 : x = o ∧ y = 4 <;> simp [st, h6, h3, h4]
  rw [← ed]
  exact v_vret F dJ0_init_2_60
def WSJ1_init : List (Int × Int × Int × Int) := [(0, 4, 0, 0), (0, 2, 0, 0), (0, 3, 0, 0), (0, 6, 0, 0)]
theorem vm_J1_init {w : Wd} {l : Launch} {d m : Dt} {o : Int} (obm : OB m o 3) : VM w l XT yJ1_init cJ1_init 5 none 2 44 0 0 d m [mA o, mA 0, mA 0, mI 0, mI 0] none (wr o WSJ1_init d) m := by
  have ho := obm.1
  refine VM.of (L := [mA o, mA 0, mA 0, mI 0, mI 0]) (by decide +kernel) rfl (Nat.le_of_ble_eq_true rfl) fun G F hnm => ?_
  refine v_aload_n F dJ1_init_0 rfl rfl ?_
  refine v_aload_n F dJ1_init_1 rfl rfl ?_
  refine v_aload_n F dJ1_init_2 rfl rfl ?_
  refine v_iload_n F dJ1_init_3 rfl rfl ?_
  refine v_iload F dJ1_init_4 rfl ?_
  refine v_callI F dJ1_init_6 cn_J1_16 rfl obm.1 (vm_J0_init_2 obm) rfl (rOk.of rfl) ?_
  obtain ⟨d1, ed1⟩ : ∃ z, z = wr o WSJ0_init_2 d := ⟨_, rfl⟩
  refine v_nD ed1 ?_
  have ed : d1 = wr o WSJ1_init d := by
    rw [ed1]
    rfl
  rw [← ed]
  exact v_vret F dJ1_init_9
def WSJ2_init : List (Int × Int × Int × Int) := [(0, 4, 0, 0), (0, 2, 0, 0), (0, 3, 0, 0), (0, 6, 0, 0)]
theorem vm_J2_init {w : Wd} {l : Launch} {d m : Dt} {o : Int} (obm : OB m o 3) : VM w l XT yJ2_init cJ2_init 5 none 3 68 0 0 d m [mA o, mA 0, mA 0, mI 0, mI 0] none (wr o WSJ2_init d) m := by
  have ho := obm.1
  refine VM.of (L := [mA o, mA 0, mA 0, mI 0, mI 0]) (by decide +kernel) rfl (Nat.le_of_ble_eq_true rfl) fun G F hnm => ?_
  refine v_aload_n F dJ2_init_0 rfl rfl ?_
  refine v_aload_n F dJ2_init_1 rfl rfl ?_
  refine v_aload_n F dJ2_init_2 rfl rfl ?_
  refine v_iload_n F dJ2_init_3 rfl rfl ?_
  refine v_iload F dJ2_init_4 rfl ?_
  refine v_callI F dJ2_init_6 cn_J2_16 rfl obm.1 (vm_J1_init obm) rfl (rOk.of rfl) ?_
  obtain ⟨d1, ed1⟩ : ∃ z, z = wr o WSJ1_init d := ⟨_, rfl⟩
  refine v_nD ed1 ?_
  have ed : d1 = wr o WSJ2_init d := by
    rw [ed1]
    rfl
  rw [← ed]
  exact v_vret F dJ2_init_9
def WSX1_init : List (Int × Int × Int × Int) := [(0, 0, 1, 1), (0, 2, 2, 1), (0, 3, 3, 1), (0, 4, 4, 1), (0, 5, 5, 1)]
def TSX1_init : List (Int × Int × Int × Int) := [(101, 24, 0, 0), (101, 60, 0, 0), (101, 60, 0, 0), (101, 60, 0, 0), (101, 60, 0, 0)]
theorem alX1_init : alN TSX1_init = 5 := rfl
theorem wf_X1_init (o : Int) (d : Dt) : wr o WSX1_init d = (st (st (st (st (st d o 0 (o + 1)) o 2 (o + 2)) o 3 (o + 3)) o 4 (o + 4)) o 5 (o + 5)) := by
  simp [WSX1_init, wr, shf, adr]
theorem tf_X1_init (m : Dt) : al TSX1_init m = (aln (aln (aln (aln (aln m ((101 : Nat) : Int) 24) ((101 : Nat) : Int) 60) ((101 : Nat) : Int) 60) ((101 : Nat) : Int) 60) ((101 : Nat) : Int) 60) := by
  simp [TSX1_init, al]
theorem vm_X1_init {w : Wd} {l : Launch} {d m : Dt} {o : Int} (hm : m 0 0 = o + 1) (obm : OB m o 1) : VM w l XT yX1_init cX1_init 1 none 1 20 5 264 d m [mA o] none (wr o WSX1_init d) (al TSX1_init m) := by
  have ho := obm.1
  refine VM.of (L := [mA o]) (by decide +kernel) rfl (Nat.le_of_ble_eq_true rfl) fun G F hnm => ?_
  refine v_aload_n F dX1_init_0 rfl rfl ?_
  refine v_objI F obm.1 dX1_init_1 q322 q315 q316 (Nat.le_of_ble_eq_true rfl) (Nat.le_of_ble_eq_true rfl) (Nat.le_of_ble_eq_true rfl) ?_
  refine v_aload_n F dX1_init_4 rfl rfl ?_
  refine v_bipush F dX1_init_5 rfl ⟨by decide, by decide⟩ ?_
  refine v_newa (t := 101) (ty := .int) F dX1_init_7 rfl rfl ⟨by decide, by decide⟩ rfl (fun _ _ => rfl) rfl q348 ⟨by decide, by decide⟩ (by decide) (fun _ _ => trivial) (Nat.le_of_ble_eq_true rfl) (ks' := 24) rfl (Nat.le_of_ble_eq_true rfl) hm ?_
  obtain ⟨m1, em1⟩ : ∃ z, z = aln m ((101 : Nat) : Int) 24 := ⟨_, rfl⟩
  refine v_nM em1 ?_
  have hm1 : m1 0 0 = (o + 2) := by rw [em1]; exact aln_nxo hm ho (by decide) rfl
  have obm1 : OB m1 o 1 := by rw [em1]; exact aln_ob obm (o_lt0 hm (by decide))
  refine cpA F fz_X1_9 (fun _ => hnm) dX1_init_9 obm1 rfl rfl ?_
  obtain ⟨d1, ed1⟩ : ∃ z, z = st d o 0 (o + 1) := ⟨_, rfl⟩
  refine v_nD ed1 ?_
  refine v_aload_n F dX1_init_12 rfl rfl ?_
  refine v_bipush F dX1_init_13 rfl ⟨by decide, by decide⟩ ?_
  refine v_newa (t := 101) (ty := .int) F dX1_init_15 rfl rfl ⟨by decide, by decide⟩ rfl (fun _ _ => rfl) rfl q348 ⟨by decide, by decide⟩ (by decide) (fun _ _ => trivial) (Nat.le_of_ble_eq_true rfl) (ks' := 84) rfl (Nat.le_of_ble_eq_true rfl) hm1 ?_
  obtain ⟨m2, em2⟩ : ∃ z, z = aln m1 ((101 : Nat) : Int) 60 := ⟨_, rfl⟩
  refine v_nM em2 ?_
  have hm2 : m2 0 0 = (o + 3) := by rw [em2]; exact aln_nxo hm1 ho (by decide) rfl
  have obm2 : OB m2 o 1 := by rw [em2]; exact aln_ob obm1 (o_lt0 hm1 (by decide))
  refine cpA F fz_X1_15 (fun _ => hnm) dX1_init_17 obm2 rfl rfl ?_
  obtain ⟨d2, ed2⟩ : ∃ z, z = st d1 o 2 (o + 2) := ⟨_, rfl⟩
  refine v_nD ed2 ?_
  refine v_aload_n F dX1_init_20 rfl rfl ?_
  refine v_bipush F dX1_init_21 rfl ⟨by decide, by decide⟩ ?_
  refine v_newa (t := 101) (ty := .int) F dX1_init_23 rfl rfl ⟨by decide, by decide⟩ rfl (fun _ _ => rfl) rfl q348 ⟨by decide, by decide⟩ (by decide) (fun _ _ => trivial) (Nat.le_of_ble_eq_true rfl) (ks' := 144) rfl (Nat.le_of_ble_eq_true rfl) hm2 ?_
  obtain ⟨m3, em3⟩ : ∃ z, z = aln m2 ((101 : Nat) : Int) 60 := ⟨_, rfl⟩
  refine v_nM em3 ?_
  have hm3 : m3 0 0 = (o + 4) := by rw [em3]; exact aln_nxo hm2 ho (by decide) rfl
  have obm3 : OB m3 o 1 := by rw [em3]; exact aln_ob obm2 (o_lt0 hm2 (by decide))
  refine cpA F fz_X1_18 (fun _ => hnm) dX1_init_25 obm3 rfl rfl ?_
  obtain ⟨d3, ed3⟩ : ∃ z, z = st d2 o 3 (o + 3) := ⟨_, rfl⟩
  refine v_nD ed3 ?_
  refine v_aload_n F dX1_init_28 rfl rfl ?_
  refine v_bipush F dX1_init_29 rfl ⟨by decide, by decide⟩ ?_
  refine v_newa (t := 101) (ty := .int) F dX1_init_31 rfl rfl ⟨by decide, by decide⟩ rfl (fun _ _ => rfl) rfl q348 ⟨by decide, by decide⟩ (by decide) (fun _ _ => trivial) (Nat.le_of_ble_eq_true rfl) (ks' := 204) rfl (Nat.le_of_ble_eq_true rfl) hm3 ?_
  obtain ⟨m4, em4⟩ : ∃ z, z = aln m3 ((101 : Nat) : Int) 60 := ⟨_, rfl⟩
  refine v_nM em4 ?_
  have hm4 : m4 0 0 = (o + 5) := by rw [em4]; exact aln_nxo hm3 ho (by decide) rfl
  have obm4 : OB m4 o 1 := by rw [em4]; exact aln_ob obm3 (o_lt0 hm3 (by decide))
  refine cpA F fz_X1_21 (fun _ => hnm) dX1_init_33 obm4 rfl rfl ?_
  obtain ⟨d4, ed4⟩ : ∃ z, z = st d3 o 4 (o + 4) := ⟨_, rfl⟩
  refine v_nD ed4 ?_
  refine v_aload_n F dX1_init_36 rfl rfl ?_
  refine v_bipush F dX1_init_37 rfl ⟨by decide, by decide⟩ ?_
  refine v_newa (t := 101) (ty := .int) F dX1_init_39 rfl rfl ⟨by decide, by decide⟩ rfl (fun _ _ => rfl) rfl q348 ⟨by decide, by decide⟩ (by decide) (fun _ _ => trivial) (Nat.le_of_ble_eq_true rfl) (ks' := 264) rfl (Nat.le_of_ble_eq_true rfl) hm4 ?_
  obtain ⟨m5, em5⟩ : ∃ z, z = aln m4 ((101 : Nat) : Int) 60 := ⟨_, rfl⟩
  refine v_nM em5 ?_
  have hm5 : m5 0 0 = (o + 6) := by rw [em5]; exact aln_nxo hm4 ho (by decide) rfl
  have obm5 : OB m5 o 1 := by rw [em5]; exact aln_ob obm4 (o_lt0 hm4 (by decide))
  refine cpA F fz_X1_24 (fun _ => hnm) dX1_init_41 obm5 rfl rfl ?_
  obtain ⟨d5, ed5⟩ : ∃ z, z = st d4 o 5 (o + 5) := ⟨_, rfl⟩
  refine v_nD ed5 ?_
  have ed : d5 = wr o WSX1_init d := by rw [wf_X1_init]; rw [ed5, ed4, ed3, ed2, ed1]
  have em : m5 = al TSX1_init m := by rw [tf_X1_init]; rw [em5, em4, em3, em2, em1]
  rw [← ed, ← em]
  exact v_vret F dX1_init_44
def WSX3_init : List (Int × Int × Int × Int) := [(0, 4, 0, 0), (0, 2, 0, 0), (0, 3, 0, 0), (0, 6, 0, 0)]
def TSX3_init : List (Int × Int × Int × Int) := []
theorem alX3_init : alN TSX3_init = 0 := rfl
theorem wf_X3_init (o : Int) (d : Dt) : wr o WSX3_init d = (wr o WSJ2_init d) := by
  simp [WSX3_init, WSJ2_init, wr, shf, adr]
theorem tf_X3_init (m : Dt) : al TSX3_init m = m := by
  rfl
theorem vm_X3_init {w : Wd} {l : Launch} {d m : Dt} {o : Int} (hm : m 0 0 = o + 1) (obm : OB m o 3) : VM w l XT yX3_init cX3_init 1 none 4 92 0 0 d m [mA o] none (wr o WSX3_init d) (al TSX3_init m) := by
  have ho := obm.1
  refine VM.of (L := [mA o]) (by decide +kernel) rfl (Nat.le_of_ble_eq_true rfl) fun G F hnm => ?_
  refine v_aload_n F dX3_init_0 rfl rfl ?_
  refine v_null F dX3_init_1 ?_
  refine v_null F dX3_init_2 ?_
  refine v_iconst F dX3_init_3 ⟨by decide, by decide⟩ ?_
  refine v_iconst F dX3_init_4 ⟨by decide, by decide⟩ ?_
  refine v_callI F dX3_init_5 cn_X3_1 rfl obm.1 (vm_J2_init obm) rfl (rOk.of rfl) ?_
  obtain ⟨d1, ed1⟩ : ∃ z, z = wr o WSJ2_init d := ⟨_, rfl⟩
  refine v_nD ed1 ?_
  have ed : d1 = wr o WSX3_init d := by rw [wf_X3_init]; rw [ed1]
  have em : m = al TSX3_init m := rfl
  rw [← ed, ← em]
  exact v_vret F dX3_init_8
def WSX2_init : List (Int × Int × Int × Int) := [(1, 4, 0, 0), (1, 2, 0, 0), (1, 3, 0, 0), (1, 6, 0, 0), (0, 1, 1, 1), (0, 11, 2, 1), (0, 14, 3, 1), (0, 3, (-8), 1), (0, 2, (-7), 1), (4, 0, (-10), 0), (4, 1, (-12), 0), (4, 2, (-14), 0), (4, 3, (-16), 0), (4, 4, (-18), 0), (4, 5, (-20), 0), (4, 6, (-22), 0), (4, 7, (-24), 0), (4, 8, (-26), 0), (4, 9, (-28), 0), (4, 10, (-30), 0), (4, 11, (-32), 0), (4, 12, (-34), 0), (4, 13, (-36), 0), (4, 14, (-38), 0), (4, 15, (-40), 0), (4, 16, (-42), 0), (4, 17, (-44), 0), (4, 18, (-46), 0), (4, 19, (-48), 0), (4, 20, (-50), 0), (4, 21, (-52), 0), (4, 22, (-54), 0), (4, 23, (-56), 0), (4, 24, (-58), 0), (4, 25, (-60), 0), (4, 26, (-62), 0), (4, 27, (-64), 0), (4, 28, (-66), 0), (4, 29, (-68), 0), (4, 30, (-70), 0), (4, 31, (-72), 0), (4, 32, (-74), 0), (4, 33, (-76), 0), (4, 34, (-78), 0), (4, 35, (-80), 0), (4, 36, (-82), 0), (4, 37, (-84), 0), (4, 38, (-86), 0), (4, 39, (-88), 0), (4, 40, (-90), 0), (4, 41, (-92), 0), (4, 42, (-94), 0), (4, 43, (-96), 0), (4, 44, (-98), 0), (4, 45, (-100), 0), (4, 46, (-102), 0), (4, 47, (-104), 0), (4, 48, (-106), 0), (4, 49, (-108), 0), (4, 50, (-110), 0), (4, 51, (-112), 0), (4, 52, (-114), 0), (4, 53, (-116), 0), (4, 54, (-118), 0), (0, 0, 4, 1)]
def TSX2_init : List (Int × Int × Int × Int) := [(4, 0, 0, 0), (103, 7, 0, 0), (101, 4000, 0, 0), (115, 55, 0, 0)]
theorem alX2_init : alN TSX2_init = 4 := rfl
theorem wf_X2_init (o : Int) (d : Dt) : wr o WSX2_init d = (st (st (st (st (st (st (st (st (st (st (st (st (st (st (st (st (st (st (st (st (st (st (st (st (st (st (st (st (st (st (st (st (st (st (st (st (st (st (st (st (st (st (st (st (st (st (st (st (st (st (st (st (st (st (st (st (st (st (st (st (st (wr (o + 1) WSX3_init d) o 1 (o + 1)) o 11 (o + 2)) o 14 (o + 3)) o 3 (o + (-8))) o 2 (o + (-7))) (o + 4) 0 (-10)) (o + 4) 1 (-12)) (o + 4) 2 (-14)) (o + 4) 3 (-16)) (o + 4) 4 (-18)) (o + 4) 5 (-20)) (o + 4) 6 (-22)) (o + 4) 7 (-24)) (o + 4) 8 (-26)) (o + 4) 9 (-28)) (o + 4) 10 (-30)) (o + 4) 11 (-32)) (o + 4) 12 (-34)) (o + 4) 13 (-36)) (o + 4) 14 (-38)) (o + 4) 15 (-40)) (o + 4) 16 (-42)) (o + 4) 17 (-44)) (o + 4) 18 (-46)) (o + 4) 19 (-48)) (o + 4) 20 (-50)) (o + 4) 21 (-52)) (o + 4) 22 (-54)) (o + 4) 23 (-56)) (o + 4) 24 (-58)) (o + 4) 25 (-60)) (o + 4) 26 (-62)) (o + 4) 27 (-64)) (o + 4) 28 (-66)) (o + 4) 29 (-68)) (o + 4) 30 (-70)) (o + 4) 31 (-72)) (o + 4) 32 (-74)) (o + 4) 33 (-76)) (o + 4) 34 (-78)) (o + 4) 35 (-80)) (o + 4) 36 (-82)) (o + 4) 37 (-84)) (o + 4) 38 (-86)) (o + 4) 39 (-88)) (o + 4) 40 (-90)) (o + 4) 41 (-92)) (o + 4) 42 (-94)) (o + 4) 43 (-96)) (o + 4) 44 (-98)) (o + 4) 45 (-100)) (o + 4) 46 (-102)) (o + 4) 47 (-104)) (o + 4) 48 (-106)) (o + 4) 49 (-108)) (o + 4) 50 (-110)) (o + 4) 51 (-112)) (o + 4) 52 (-114)) (o + 4) 53 (-116)) (o + 4) 54 (-118)) o 0 (o + 4)) := by
  rw [wr_shf o 1]; simp [WSX2_init, WSX3_init, wr, shf, adr]
theorem tf_X2_init (m : Dt) : al TSX2_init m = (aln (aln (aln (al TSX3_init (aln m ((3 : Nat) + 1 : Int) 0)) ((103 : Nat) : Int) 7) ((101 : Nat) : Int) 4000) ((115 : Nat) : Int) 55) := by
  simp [TSX2_init, TSX3_init, al]
theorem vm_X2_init {w : Wd} {l : Launch} {d m : Dt} {o : Int} (hm : m 0 0 = o + 1) (obm : OB m o 2) {a1 : Int} (ha1 : a1 = (o + (-8))) {a2 : Int} (ha2 : a2 = (o + (-7))) : VM w l XT yX2_init cX2_init 3 none 5 112 4 4069 d m [mA o, mA a1, mA a2] none (wr o WSX2_init d) (al TSX2_init m) := by
  have ho := obm.1
  subst ha1
  subst ha2
  refine VM.of (L := [mA o, mA (o + (-8)), mA (o + (-7))]) (by decide +kernel) rfl (Nat.le_of_ble_eq_true rfl) fun G F hnm => ?_
  refine v_aload_n F dX2_init_0 rfl rfl ?_
  refine v_objI F obm.1 dX2_init_1 q356 q315 q316 (Nat.le_of_ble_eq_true rfl) (Nat.le_of_ble_eq_true rfl) (Nat.le_of_ble_eq_true rfl) ?_
  refine v_aload_n F dX2_init_4 rfl rfl ?_
  refine v_new (c := 3) (n := 7) F dX2_init_5 rfl (Nat.le_of_ble_eq_true rfl) rfl ok_X3 q357 q358 q288 in_X3 tyX3_ok (fun _ _ => trivial) (Nat.le_of_ble_eq_true rfl) (Nat.le_of_ble_eq_true rfl) hm ?_
  have hn1 : m 0 0 = (o + 1) := hm
  obtain ⟨m1, em1⟩ : ∃ z, z = aln m ((3 : Nat) + 1 : Int) 0 := ⟨_, rfl⟩
  refine v_nM em1 ?_
  have hm1 : m1 0 0 = (o + 2) := by rw [em1]; exact aln_nxo hm ho (by decide) rfl
  have obm1 : OB m1 o 2 := by rw [em1]; exact aln_ob obm (o_lt0 hm (by decide))
  have ob1m1 : OB m1 (o + 1) 3 := ⟨o_pos ho (by decide), by rw [em1, ← hn1]; exact aln_1⟩
  refine v_dup_A F dX2_init_8 ?_
  refine v_callI F dX2_init_9 cn_X2_11 rfl ob1m1.1 (vm_X3_init (o := (o + 1)) (hm1.trans (o_da rfl)) ob1m1) rfl (rOk.of rfl) ?_
  obtain ⟨m2, em2⟩ : ∃ z, z = al TSX3_init m1 := ⟨_, rfl⟩
  refine v_nM em2 ?_
  have hm2 : m2 0 0 = (o + 2) := by rw [em2]; exact al_nxo rfl hm1 ho (by decide) alX3_init rfl
  have obm2 : OB m2 o 2 := by rw [em2]; exact al_ob rfl obm1 (o_lt0 hm1 (by decide))
  have ob1m2 : OB m2 (o + 1) 3 := by rw [em2]; exact al_ob rfl ob1m1 (o_lt hm1 (by decide))
  obtain ⟨d1, ed1⟩ : ∃ z, z = wr (o + 1) WSX3_init d := ⟨_, rfl⟩
  refine v_nD ed1 ?_
  refine cpA F fz_X2_12 (fun _ => hnm) dX2_init_12 obm2 rfl rfl ?_
  obtain ⟨d2, ed2⟩ : ∃ z, z = st d1 o 1 (o + 1) := ⟨_, rfl⟩
  refine v_nD ed2 ?_
  refine v_aload_n F dX2_init_15 rfl rfl ?_
  refine v_bipush F dX2_init_16 rfl ⟨by decide, by decide⟩ ?_
  refine v_newa (t := 103) (ty := .boolean) F dX2_init_18 rfl rfl ⟨by decide, by decide⟩ rfl (fun _ _ => rfl) rfl q533 ⟨by decide, by decide⟩ (by decide) (fun _ _ => trivial) (Nat.le_of_ble_eq_true rfl) (ks' := 14) rfl (Nat.le_of_ble_eq_true rfl) hm2 ?_
  obtain ⟨m3, em3⟩ : ∃ z, z = aln m2 ((103 : Nat) : Int) 7 := ⟨_, rfl⟩
  refine v_nM em3 ?_
  have hm3 : m3 0 0 = (o + 3) := by rw [em3]; exact aln_nxo hm2 ho (by decide) rfl
  have obm3 : OB m3 o 2 := by rw [em3]; exact aln_ob obm2 (o_lt0 hm2 (by decide))
  refine cpA F fz_X2_18 (fun _ => hnm) dX2_init_20 obm3 rfl rfl ?_
  obtain ⟨d3, ed3⟩ : ∃ z, z = st d2 o 11 (o + 2) := ⟨_, rfl⟩
  refine v_nD ed3 ?_
  refine v_aload_n F dX2_init_23 rfl rfl ?_
  refine v_sipush F dX2_init_24 rfl ⟨by decide, by decide⟩ ?_
  refine v_newa (t := 101) (ty := .int) F dX2_init_27 rfl rfl ⟨by decide, by decide⟩ rfl (fun _ _ => rfl) rfl q348 ⟨by decide, by decide⟩ (by decide) (fun _ _ => trivial) (Nat.le_of_ble_eq_true rfl) (ks' := 4014) rfl (Nat.le_of_ble_eq_true rfl) hm3 ?_
  obtain ⟨m4, em4⟩ : ∃ z, z = aln m3 ((101 : Nat) : Int) 4000 := ⟨_, rfl⟩
  refine v_nM em4 ?_
  have hm4 : m4 0 0 = (o + 4) := by rw [em4]; exact aln_nxo hm3 ho (by decide) rfl
  have obm4 : OB m4 o 2 := by rw [em4]; exact aln_ob obm3 (o_lt0 hm3 (by decide))
  refine cpA F fz_X2_22 (fun _ => hnm) dX2_init_29 obm4 rfl rfl ?_
  obtain ⟨d4, ed4⟩ : ∃ z, z = st d3 o 14 (o + 3) := ⟨_, rfl⟩
  refine v_nD ed4 ?_
  refine v_aload_n F dX2_init_32 rfl rfl ?_
  refine v_aload_n F dX2_init_33 rfl rfl ?_
  refine cpA F fz_X2_26 (fun _ => hnm) dX2_init_34 obm4 rfl rfl ?_
  obtain ⟨d5, ed5⟩ : ∃ z, z = st d4 o 3 (o + (-8)) := ⟨_, rfl⟩
  refine v_nD ed5 ?_
  refine v_aload_n F dX2_init_37 rfl rfl ?_
  refine v_aload_n F dX2_init_38 rfl rfl ?_
  refine cpA F fz_X2_30 (fun _ => hnm) dX2_init_39 obm4 rfl rfl ?_
  obtain ⟨d6, ed6⟩ : ∃ z, z = st d5 o 2 (o + (-7)) := ⟨_, rfl⟩
  refine v_nD ed6 ?_
  refine v_aload_n F dX2_init_42 rfl rfl ?_
  refine v_bipush F dX2_init_43 rfl ⟨by decide, by decide⟩ ?_
  refine v_anew (t := 115) (C := "java/lang/String") F dX2_init_45 rfl ⟨by decide, by decide⟩ rfl q424 q425 ⟨by decide, by decide⟩ (fun _ _ => trivial) (Nat.le_of_ble_eq_true rfl) (ks' := 4069) rfl (Nat.le_of_ble_eq_true rfl) hm4 ?_
  obtain ⟨m5, em5⟩ : ∃ z, z = aln m4 ((115 : Nat) : Int) 55 := ⟨_, rfl⟩
  refine v_nM em5 ?_
  have hm5 : m5 0 0 = (o + 5) := by rw [em5]; exact aln_nxo hm4 ho (by decide) rfl
  have obm5 : OB m5 o 2 := by rw [em5]; exact aln_ob obm4 (o_lt0 hm4 (by decide))
  have ar4m5 : AR m5 (o + 4) 115 55 := ⟨o_pos ho (by decide), by rw [em5, ← hm4]; exact aln_1, by rw [em5, ← hm4]; exact aln_2⟩
  refine v_dup_A F dX2_init_48 ?_
  refine v_iconst F dX2_init_49 ⟨by decide, by decide⟩ ?_
  refine v_lds (tx := "DAYS") (a := (-10)) F dX2_init_50 (List.mem_of_getElem? (i := 0) rfl) (by decide) ?_
  refine v_aastT F dX2_init_52 ar4m5 rfl (show isSb (-10) = true from rfl) ⟨by decide, by decide⟩ (fun _ _ => trivial) ?_
  obtain ⟨d7, ed7⟩ : ∃ z, z = st d6 (o + 4) 0 (-10) := ⟨_, rfl⟩
  refine v_nD ed7 ?_
  refine v_dup_A F dX2_init_53 ?_
  refine v_iconst F dX2_init_54 ⟨by decide, by decide⟩ ?_
  refine v_lds (tx := "EVE") (a := (-12)) F dX2_init_55 (List.mem_of_getElem? (i := 1) rfl) (by decide) ?_
  refine v_aastT F dX2_init_57 ar4m5 rfl (show isSb (-12) = true from rfl) ⟨by decide, by decide⟩ (fun _ _ => trivial) ?_
  obtain ⟨d8, ed8⟩ : ∃ z, z = st d7 (o + 4) 1 (-12) := ⟨_, rfl⟩
  refine v_nD ed8 ?_
  refine v_dup_A F dX2_init_58 ?_
  refine v_iconst F dX2_init_59 ⟨by decide, by decide⟩ ?_
  refine v_lds (tx := "VOTE") (a := (-14)) F dX2_init_60 (List.mem_of_getElem? (i := 2) rfl) (by decide) ?_
  refine v_aastT F dX2_init_62 ar4m5 rfl (show isSb (-14) = true from rfl) ⟨by decide, by decide⟩ (fun _ _ => trivial) ?_
  obtain ⟨d9, ed9⟩ : ∃ z, z = st d8 (o + 4) 2 (-14) := ⟨_, rfl⟩
  refine v_nD ed9 ?_
  refine v_dup_A F dX2_init_63 ?_
  refine v_iconst F dX2_init_64 ⟨by decide, by decide⟩ ?_
  refine v_lds (tx := "STAND") (a := (-16)) F dX2_init_65 (List.mem_of_getElem? (i := 3) rfl) (by decide) ?_
  refine v_aastT F dX2_init_67 ar4m5 rfl (show isSb (-16) = true from rfl) ⟨by decide, by decide⟩ (fun _ _ => trivial) ?_
  obtain ⟨d10, ed10⟩ : ∃ z, z = st d9 (o + 4) 3 (-16) := ⟨_, rfl⟩
  refine v_nD ed10 ?_
  refine v_dup_A F dX2_init_68 ?_
  refine v_iconst F dX2_init_69 ⟨by decide, by decide⟩ ?_
  refine v_lds (tx := "SIGNATURES") (a := (-18)) F dX2_init_70 (List.mem_of_getElem? (i := 4) rfl) (by decide) ?_
  refine v_aastT F dX2_init_72 ar4m5 rfl (show isSb (-18) = true from rfl) ⟨by decide, by decide⟩ (fun _ _ => trivial) ?_
  obtain ⟨d11, ed11⟩ : ∃ z, z = st d10 (o + 4) 4 (-18) := ⟨_, rfl⟩
  refine v_nD ed11 ?_
  refine v_dup_A F dX2_init_73 ?_
  refine v_iconst F dX2_init_74 ⟨by decide, by decide⟩ ?_
  refine v_lds (tx := "SPOIL") (a := (-20)) F dX2_init_75 (List.mem_of_getElem? (i := 5) rfl) (by decide) ?_
  refine v_aastT F dX2_init_77 ar4m5 rfl (show isSb (-20) = true from rfl) ⟨by decide, by decide⟩ (fun _ _ => trivial) ?_
  obtain ⟨d12, ed12⟩ : ∃ z, z = st d11 (o + 4) 5 (-20) := ⟨_, rfl⟩
  refine v_nD ed12 ?_
  refine v_dup_A F dX2_init_78 ?_
  refine v_bipush F dX2_init_79 rfl ⟨by decide, by decide⟩ ?_
  refine v_lds (tx := "MAIL") (a := (-22)) F dX2_init_81 (List.mem_of_getElem? (i := 6) rfl) (by decide) ?_
  refine v_aastT F dX2_init_83 ar4m5 rfl (show isSb (-22) = true from rfl) ⟨by decide, by decide⟩ (fun _ _ => trivial) ?_
  obtain ⟨d13, ed13⟩ : ∃ z, z = st d12 (o + 4) 6 (-22) := ⟨_, rfl⟩
  refine v_nD ed13 ?_
  refine v_dup_A F dX2_init_84 ?_
  refine v_bipush F dX2_init_85 rfl ⟨by decide, by decide⟩ ?_
  refine v_lds (tx := "CONTEST") (a := (-24)) F dX2_init_87 (List.mem_of_getElem? (i := 7) rfl) (by decide) ?_
  refine v_aastT F dX2_init_89 ar4m5 rfl (show isSb (-24) = true from rfl) ⟨by decide, by decide⟩ (fun _ _ => trivial) ?_
  obtain ⟨d14, ed14⟩ : ∃ z, z = st d13 (o + 4) 7 (-24) := ⟨_, rfl⟩
  refine v_nD ed14 ?_
  refine v_dup_A F dX2_init_90 ?_
  refine v_bipush F dX2_init_91 rfl ⟨by decide, by decide⟩ ?_
  refine v_lds (tx := "EACH") (a := (-26)) F dX2_init_93 (List.mem_of_getElem? (i := 8) rfl) (by decide) ?_
  refine v_aastT F dX2_init_95 ar4m5 rfl (show isSb (-26) = true from rfl) ⟨by decide, by decide⟩ (fun _ _ => trivial) ?_
  obtain ⟨d15, ed15⟩ : ∃ z, z = st d14 (o + 4) 8 (-26) := ⟨_, rfl⟩
  refine v_nD ed15 ?_
  refine v_dup_A F dX2_init_96 ?_
  refine v_bipush F dX2_init_97 rfl ⟨by decide, by decide⟩ ?_
  refine v_lds (tx := "IN") (a := (-28)) F dX2_init_99 (List.mem_of_getElem? (i := 9) rfl) (by decide) ?_
  refine v_aastT F dX2_init_101 ar4m5 rfl (show isSb (-28) = true from rfl) ⟨by decide, by decide⟩ (fun _ _ => trivial) ?_
  obtain ⟨d16, ed16⟩ : ∃ z, z = st d15 (o + 4) 9 (-28) := ⟨_, rfl⟩
  refine v_nD ed16 ?_
  refine v_dup_A F dX2_init_102 ?_
  refine v_bipush F dX2_init_103 rfl ⟨by decide, by decide⟩ ?_
  refine v_lds (tx := "SEATS") (a := (-30)) F dX2_init_105 (List.mem_of_getElem? (i := 10) rfl) (by decide) ?_
  refine v_aastT F dX2_init_107 ar4m5 rfl (show isSb (-30) = true from rfl) ⟨by decide, by decide⟩ (fun _ _ => trivial) ?_
  obtain ⟨d17, ed17⟩ : ∃ z, z = st d16 (o + 4) 10 (-30) := ⟨_, rfl⟩
  refine v_nD ed17 ?_
  refine v_dup_A F dX2_init_108 ?_
  refine v_bipush F dX2_init_109 rfl ⟨by decide, by decide⟩ ?_
  refine v_lds (tx := "BY") (a := (-32)) F dX2_init_111 (List.mem_of_getElem? (i := 11) rfl) (by decide) ?_
  refine v_aastT F dX2_init_113 ar4m5 rfl (show isSb (-32) = true from rfl) ⟨by decide, by decide⟩ (fun _ _ => trivial) ?_
  obtain ⟨d18, ed18⟩ : ∃ z, z = st d17 (o + 4) 11 (-32) := ⟨_, rfl⟩
  refine v_nD ed18 ?_
  refine v_dup_A F dX2_init_114 ?_
  refine v_bipush F dX2_init_115 rfl ⟨by decide, by decide⟩ ?_
  refine v_lds (tx := "LAST") (a := (-34)) F dX2_init_117 (List.mem_of_getElem? (i := 12) rfl) (by decide) ?_
  refine v_aastT F dX2_init_119 ar4m5 rfl (show isSb (-34) = true from rfl) ⟨by decide, by decide⟩ (fun _ _ => trivial) ?_
  obtain ⟨d19, ed19⟩ : ∃ z, z = st d18 (o + 4) 12 (-34) := ⟨_, rfl⟩
  refine v_nD ed19 ?_
  refine v_dup_A F dX2_init_120 ?_
  refine v_bipush F dX2_init_121 rfl ⟨by decide, by decide⟩ ?_
  refine v_lds (tx := "EASTER") (a := (-36)) F dX2_init_123 (List.mem_of_getElem? (i := 13) rfl) (by decide) ?_
  refine v_aastT F dX2_init_125 ar4m5 rfl (show isSb (-36) = true from rfl) ⟨by decide, by decide⟩ (fun _ _ => trivial) ?_
  obtain ⟨d20, ed20⟩ : ∃ z, z = st d19 (o + 4) 13 (-36) := ⟨_, rfl⟩
  refine v_nD ed20 ?_
  refine v_dup_A F dX2_init_126 ?_
  refine v_bipush F dX2_init_127 rfl ⟨by decide, by decide⟩ ?_
  refine v_lds (tx := "OR") (a := (-38)) F dX2_init_129 (List.mem_of_getElem? (i := 14) rfl) (by decide) ?_
  refine v_aastT F dX2_init_131 ar4m5 rfl (show isSb (-38) = true from rfl) ⟨by decide, by decide⟩ (fun _ _ => trivial) ?_
  obtain ⟨d21, ed21⟩ : ∃ z, z = st d20 (o + 4) 14 (-38) := ⟨_, rfl⟩
  refine v_nD ed21 ?_
  refine v_dup_A F dX2_init_132 ?_
  refine v_bipush F dX2_init_133 rfl ⟨by decide, by decide⟩ ?_
  refine v_lds (tx := "AND") (a := (-40)) F dX2_init_135 (List.mem_of_getElem? (i := 15) rfl) (by decide) ?_
  refine v_aastT F dX2_init_137 ar4m5 rfl (show isSb (-40) = true from rfl) ⟨by decide, by decide⟩ (fun _ _ => trivial) ?_
  obtain ⟨d22, ed22⟩ : ∃ z, z = st d21 (o + 4) 15 (-40) := ⟨_, rfl⟩
  refine v_nD ed22 ?_
  refine v_dup_A F dX2_init_138 ?_
  refine v_bipush F dX2_init_139 rfl ⟨by decide, by decide⟩ ?_
  refine v_lds (tx := "NOT") (a := (-42)) F dX2_init_141 (List.mem_of_getElem? (i := 16) rfl) (by decide) ?_
  refine v_aastT F dX2_init_143 ar4m5 rfl (show isSb (-42) = true from rfl) ⟨by decide, by decide⟩ (fun _ _ => trivial) ?_
  obtain ⟨d23, ed23⟩ : ∃ z, z = st d22 (o + 4) 16 (-42) := ⟨_, rfl⟩
  refine v_nD ed23 ?_
  refine v_dup_A F dX2_init_144 ?_
  refine v_bipush F dX2_init_145 rfl ⟨by decide, by decide⟩ ?_
  refine v_lds (tx := "AGE") (a := (-44)) F dX2_init_147 (List.mem_of_getElem? (i := 17) rfl) (by decide) ?_
  refine v_aastT F dX2_init_149 ar4m5 rfl (show isSb (-44) = true from rfl) ⟨by decide, by decide⟩ (fun _ _ => trivial) ?_
  obtain ⟨d24, ed24⟩ : ∃ z, z = st d23 (o + 4) 17 (-44) := ⟨_, rfl⟩
  refine v_nD ed24 ?_
  refine v_dup_A F dX2_init_150 ?_
  refine v_bipush F dX2_init_151 rfl ⟨by decide, by decide⟩ ?_
  refine v_lds (tx := "LIVED") (a := (-46)) F dX2_init_153 (List.mem_of_getElem? (i := 18) rfl) (by decide) ?_
  refine v_aastT F dX2_init_155 ar4m5 rfl (show isSb (-46) = true from rfl) ⟨by decide, by decide⟩ (fun _ _ => trivial) ?_
  obtain ⟨d25, ed25⟩ : ∃ z, z = st d24 (o + 4) 18 (-46) := ⟨_, rfl⟩
  refine v_nD ed25 ?_
  refine v_dup_A F dX2_init_156 ?_
  refine v_bipush F dX2_init_157 rfl ⟨by decide, by decide⟩ ?_
  refine v_lds (tx := "FACT") (a := (-48)) F dX2_init_159 (List.mem_of_getElem? (i := 19) rfl) (by decide) ?_
  refine v_aastT F dX2_init_161 ar4m5 rfl (show isSb (-48) = true from rfl) ⟨by decide, by decide⟩ (fun _ _ => trivial) ?_
  obtain ⟨d26, ed26⟩ : ∃ z, z = st d25 (o + 4) 19 (-48) := ⟨_, rfl⟩
  refine v_nD ed26 ?_
  refine v_dup_A F dX2_init_162 ?_
  refine v_bipush F dX2_init_163 rfl ⟨by decide, by decide⟩ ?_
  refine v_lds (tx := "ON") (a := (-50)) F dX2_init_165 (List.mem_of_getElem? (i := 20) rfl) (by decide) ?_
  refine v_aastT F dX2_init_167 ar4m5 rfl (show isSb (-50) = true from rfl) ⟨by decide, by decide⟩ (fun _ _ => trivial) ?_
  obtain ⟨d27, ed27⟩ : ∃ z, z = st d26 (o + 4) 20 (-50) := ⟨_, rfl⟩
  refine v_nD ed27 ?_
  refine v_dup_A F dX2_init_168 ?_
  refine v_bipush F dX2_init_169 rfl ⟨by decide, by decide⟩ ?_
  refine v_lds (tx := "ABOVE") (a := (-52)) F dX2_init_171 (List.mem_of_getElem? (i := 21) rfl) (by decide) ?_
  refine v_aastT F dX2_init_173 ar4m5 rfl (show isSb (-52) = true from rfl) ⟨by decide, by decide⟩ (fun _ _ => trivial) ?_
  obtain ⟨d28, ed28⟩ : ∃ z, z = st d27 (o + 4) 21 (-52) := ⟨_, rfl⟩
  refine v_nD ed28 ?_
  refine v_dup_A F dX2_init_174 ?_
  refine v_bipush F dX2_init_175 rfl ⟨by decide, by decide⟩ ?_
  refine v_lds (tx := "OPEN") (a := (-54)) F dX2_init_177 (List.mem_of_getElem? (i := 22) rfl) (by decide) ?_
  refine v_aastT F dX2_init_179 ar4m5 rfl (show isSb (-54) = true from rfl) ⟨by decide, by decide⟩ (fun _ _ => trivial) ?_
  obtain ⟨d29, ed29⟩ : ∃ z, z = st d28 (o + 4) 22 (-54) := ⟨_, rfl⟩
  refine v_nD ed29 ?_
  refine v_dup_A F dX2_init_180 ?_
  refine v_bipush F dX2_init_181 rfl ⟨by decide, by decide⟩ ?_
  refine v_lds (tx := "LEVEL") (a := (-56)) F dX2_init_183 (List.mem_of_getElem? (i := 23) rfl) (by decide) ?_
  refine v_aastT F dX2_init_185 ar4m5 rfl (show isSb (-56) = true from rfl) ⟨by decide, by decide⟩ (fun _ _ => trivial) ?_
  obtain ⟨d30, ed30⟩ : ∃ z, z = st d29 (o + 4) 23 (-56) := ⟨_, rfl⟩
  refine v_nD ed30 ?_
  refine v_dup_A F dX2_init_186 ?_
  refine v_bipush F dX2_init_187 rfl ⟨by decide, by decide⟩ ?_
  refine v_lds (tx := "MON") (a := (-58)) F dX2_init_189 (List.mem_of_getElem? (i := 24) rfl) (by decide) ?_
  refine v_aastT F dX2_init_191 ar4m5 rfl (show isSb (-58) = true from rfl) ⟨by decide, by decide⟩ (fun _ _ => trivial) ?_
  obtain ⟨d31, ed31⟩ : ∃ z, z = st d30 (o + 4) 24 (-58) := ⟨_, rfl⟩
  refine v_nD ed31 ?_
  refine v_dup_A F dX2_init_192 ?_
  refine v_bipush F dX2_init_193 rfl ⟨by decide, by decide⟩ ?_
  refine v_lds (tx := "TUE") (a := (-60)) F dX2_init_195 (List.mem_of_getElem? (i := 25) rfl) (by decide) ?_
  refine v_aastT F dX2_init_197 ar4m5 rfl (show isSb (-60) = true from rfl) ⟨by decide, by decide⟩ (fun _ _ => trivial) ?_
  obtain ⟨d32, ed32⟩ : ∃ z, z = st d31 (o + 4) 25 (-60) := ⟨_, rfl⟩
  refine v_nD ed32 ?_
  refine v_dup_A F dX2_init_198 ?_
  refine v_bipush F dX2_init_199 rfl ⟨by decide, by decide⟩ ?_
  refine v_lds (tx := "WED") (a := (-62)) F dX2_init_201 (List.mem_of_getElem? (i := 26) rfl) (by decide) ?_
  refine v_aastT F dX2_init_203 ar4m5 rfl (show isSb (-62) = true from rfl) ⟨by decide, by decide⟩ (fun _ _ => trivial) ?_
  obtain ⟨d33, ed33⟩ : ∃ z, z = st d32 (o + 4) 26 (-62) := ⟨_, rfl⟩
  refine v_nD ed33 ?_
  refine v_dup_A F dX2_init_204 ?_
  refine v_bipush F dX2_init_205 rfl ⟨by decide, by decide⟩ ?_
  refine v_lds (tx := "THU") (a := (-64)) F dX2_init_207 (List.mem_of_getElem? (i := 27) rfl) (by decide) ?_
  refine v_aastT F dX2_init_209 ar4m5 rfl (show isSb (-64) = true from rfl) ⟨by decide, by decide⟩ (fun _ _ => trivial) ?_
  obtain ⟨d34, ed34⟩ : ∃ z, z = st d33 (o + 4) 27 (-64) := ⟨_, rfl⟩
  refine v_nD ed34 ?_
  refine v_dup_A F dX2_init_210 ?_
  refine v_bipush F dX2_init_211 rfl ⟨by decide, by decide⟩ ?_
  refine v_lds (tx := "FRI") (a := (-66)) F dX2_init_213 (List.mem_of_getElem? (i := 28) rfl) (by decide) ?_
  refine v_aastT F dX2_init_215 ar4m5 rfl (show isSb (-66) = true from rfl) ⟨by decide, by decide⟩ (fun _ _ => trivial) ?_
  obtain ⟨d35, ed35⟩ : ∃ z, z = st d34 (o + 4) 28 (-66) := ⟨_, rfl⟩
  refine v_nD ed35 ?_
  refine v_dup_A F dX2_init_216 ?_
  refine v_bipush F dX2_init_217 rfl ⟨by decide, by decide⟩ ?_
  refine v_lds (tx := "SAT") (a := (-68)) F dX2_init_219 (List.mem_of_getElem? (i := 29) rfl) (by decide) ?_
  refine v_aastT F dX2_init_221 ar4m5 rfl (show isSb (-68) = true from rfl) ⟨by decide, by decide⟩ (fun _ _ => trivial) ?_
  obtain ⟨d36, ed36⟩ : ∃ z, z = st d35 (o + 4) 29 (-68) := ⟨_, rfl⟩
  refine v_nD ed36 ?_
  refine v_dup_A F dX2_init_222 ?_
  refine v_bipush F dX2_init_223 rfl ⟨by decide, by decide⟩ ?_
  refine v_lds (tx := "SUN") (a := (-70)) F dX2_init_225 (List.mem_of_getElem? (i := 30) rfl) (by decide) ?_
  refine v_aastT F dX2_init_227 ar4m5 rfl (show isSb (-70) = true from rfl) ⟨by decide, by decide⟩ (fun _ _ => trivial) ?_
  obtain ⟨d37, ed37⟩ : ∃ z, z = st d36 (o + 4) 30 (-70) := ⟨_, rfl⟩
  refine v_nD ed37 ?_
  refine v_dup_A F dX2_init_228 ?_
  refine v_bipush F dX2_init_229 rfl ⟨by decide, by decide⟩ ?_
  refine v_lds (tx := "FIRST") (a := (-72)) F dX2_init_231 (List.mem_of_getElem? (i := 31) rfl) (by decide) ?_
  refine v_aastT F dX2_init_233 ar4m5 rfl (show isSb (-72) = true from rfl) ⟨by decide, by decide⟩ (fun _ _ => trivial) ?_
  obtain ⟨d38, ed38⟩ : ∃ z, z = st d37 (o + 4) 31 (-72) := ⟨_, rfl⟩
  refine v_nD ed38 ?_
  refine v_dup_A F dX2_init_234 ?_
  refine v_bipush F dX2_init_235 rfl ⟨by decide, by decide⟩ ?_
  refine v_lds (tx := "BLOCK") (a := (-74)) F dX2_init_237 (List.mem_of_getElem? (i := 32) rfl) (by decide) ?_
  refine v_aastT F dX2_init_239 ar4m5 rfl (show isSb (-74) = true from rfl) ⟨by decide, by decide⟩ (fun _ _ => trivial) ?_
  obtain ⟨d39, ed39⟩ : ∃ z, z = st d38 (o + 4) 32 (-74) := ⟨_, rfl⟩
  refine v_nD ed39 ?_
  refine v_dup_A F dX2_init_240 ?_
  refine v_bipush F dX2_init_241 rfl ⟨by decide, by decide⟩ ?_
  refine v_lds (tx := "APPROVAL") (a := (-76)) F dX2_init_243 (List.mem_of_getElem? (i := 33) rfl) (by decide) ?_
  refine v_aastT F dX2_init_245 ar4m5 rfl (show isSb (-76) = true from rfl) ⟨by decide, by decide⟩ (fun _ _ => trivial) ?_
  obtain ⟨d40, ed40⟩ : ∃ z, z = st d39 (o + 4) 33 (-76) := ⟨_, rfl⟩
  refine v_nD ed40 ?_
  refine v_dup_A F dX2_init_246 ?_
  refine v_bipush F dX2_init_247 rfl ⟨by decide, by decide⟩ ?_
  refine v_lds (tx := "POINTS") (a := (-78)) F dX2_init_249 (List.mem_of_getElem? (i := 34) rfl) (by decide) ?_
  refine v_aastT F dX2_init_251 ar4m5 rfl (show isSb (-78) = true from rfl) ⟨by decide, by decide⟩ (fun _ _ => trivial) ?_
  obtain ⟨d41, ed41⟩ : ∃ z, z = st d40 (o + 4) 34 (-78) := ⟨_, rfl⟩
  refine v_nD ed41 ?_
  refine v_dup_A F dX2_init_252 ?_
  refine v_bipush F dX2_init_253 rfl ⟨by decide, by decide⟩ ?_
  refine v_lds (tx := "MEDIAN") (a := (-80)) F dX2_init_255 (List.mem_of_getElem? (i := 35) rfl) (by decide) ?_
  refine v_aastT F dX2_init_257 ar4m5 rfl (show isSb (-80) = true from rfl) ⟨by decide, by decide⟩ (fun _ _ => trivial) ?_
  obtain ⟨d42, ed42⟩ : ∃ z, z = st d41 (o + 4) 35 (-80) := ⟨_, rfl⟩
  refine v_nD ed42 ?_
  refine v_dup_A F dX2_init_258 ?_
  refine v_bipush F dX2_init_259 rfl ⟨by decide, by decide⟩ ?_
  refine v_lds (tx := "RANKS") (a := (-82)) F dX2_init_261 (List.mem_of_getElem? (i := 36) rfl) (by decide) ?_
  refine v_aastT F dX2_init_263 ar4m5 rfl (show isSb (-82) = true from rfl) ⟨by decide, by decide⟩ (fun _ _ => trivial) ?_
  obtain ⟨d43, ed43⟩ : ∃ z, z = st d42 (o + 4) 36 (-82) := ⟨_, rfl⟩
  refine v_nD ed43 ?_
  refine v_dup_A F dX2_init_264 ?_
  refine v_bipush F dX2_init_265 rfl ⟨by decide, by decide⟩ ?_
  refine v_lds (tx := "OUT") (a := (-84)) F dX2_init_267 (List.mem_of_getElem? (i := 37) rfl) (by decide) ?_
  refine v_aastT F dX2_init_269 ar4m5 rfl (show isSb (-84) = true from rfl) ⟨by decide, by decide⟩ (fun _ _ => trivial) ?_
  obtain ⟨d44, ed44⟩ : ∃ z, z = st d43 (o + 4) 37 (-84) := ⟨_, rfl⟩
  refine v_nD ed44 ?_
  refine v_dup_A F dX2_init_270 ?_
  refine v_bipush F dX2_init_271 rfl ⟨by decide, by decide⟩ ?_
  refine v_lds (tx := "LEAST") (a := (-86)) F dX2_init_273 (List.mem_of_getElem? (i := 38) rfl) (by decide) ?_
  refine v_aastT F dX2_init_275 ar4m5 rfl (show isSb (-86) = true from rfl) ⟨by decide, by decide⟩ (fun _ _ => trivial) ?_
  obtain ⟨d45, ed45⟩ : ∃ z, z = st d44 (o + 4) 38 (-86) := ⟨_, rfl⟩
  refine v_nD ed45 ?_
  refine v_dup_A F dX2_init_276 ?_
  refine v_bipush F dX2_init_277 rfl ⟨by decide, by decide⟩ ?_
  refine v_lds (tx := "PAIRS") (a := (-88)) F dX2_init_279 (List.mem_of_getElem? (i := 39) rfl) (by decide) ?_
  refine v_aastT F dX2_init_281 ar4m5 rfl (show isSb (-88) = true from rfl) ⟨by decide, by decide⟩ (fun _ _ => trivial) ?_
  obtain ⟨d46, ed46⟩ : ∃ z, z = st d45 (o + 4) 39 (-88) := ⟨_, rfl⟩
  refine v_nD ed46 ?_
  refine v_dup_A F dX2_init_282 ?_
  refine v_bipush F dX2_init_283 rfl ⟨by decide, by decide⟩ ?_
  refine v_lds (tx := "PATHS") (a := (-90)) F dX2_init_285 (List.mem_of_getElem? (i := 40) rfl) (by decide) ?_
  refine v_aastT F dX2_init_287 ar4m5 rfl (show isSb (-90) = true from rfl) ⟨by decide, by decide⟩ (fun _ _ => trivial) ?_
  obtain ⟨d47, ed47⟩ : ∃ z, z = st d46 (o + 4) 40 (-90) := ⟨_, rfl⟩
  refine v_nD ed47 ?_
  refine v_dup_A F dX2_init_288 ?_
  refine v_bipush F dX2_init_289 rfl ⟨by decide, by decide⟩ ?_
  refine v_lds (tx := "TOP") (a := (-92)) F dX2_init_291 (List.mem_of_getElem? (i := 41) rfl) (by decide) ?_
  refine v_aastT F dX2_init_293 ar4m5 rfl (show isSb (-92) = true from rfl) ⟨by decide, by decide⟩ (fun _ _ => trivial) ?_
  obtain ⟨d48, ed48⟩ : ∃ z, z = st d47 (o + 4) 41 (-92) := ⟨_, rfl⟩
  refine v_nD ed48 ?_
  refine v_dup_A F dX2_init_294 ?_
  refine v_bipush F dX2_init_295 rfl ⟨by decide, by decide⟩ ?_
  refine v_lds (tx := "MEEK") (a := (-94)) F dX2_init_297 (List.mem_of_getElem? (i := 42) rfl) (by decide) ?_
  refine v_aastT F dX2_init_299 ar4m5 rfl (show isSb (-94) = true from rfl) ⟨by decide, by decide⟩ (fun _ _ => trivial) ?_
  obtain ⟨d49, ed49⟩ : ∃ z, z = st d48 (o + 4) 42 (-94) := ⟨_, rfl⟩
  refine v_nD ed49 ?_
  refine v_dup_A F dX2_init_300 ?_
  refine v_bipush F dX2_init_301 rfl ⟨by decide, by decide⟩ ?_
  refine v_lds (tx := "TRANSFER") (a := (-96)) F dX2_init_303 (List.mem_of_getElem? (i := 43) rfl) (by decide) ?_
  refine v_aastT F dX2_init_305 ar4m5 rfl (show isSb (-96) = true from rfl) ⟨by decide, by decide⟩ (fun _ _ => trivial) ?_
  obtain ⟨d50, ed50⟩ : ∃ z, z = st d49 (o + 4) 43 (-96) := ⟨_, rfl⟩
  refine v_nD ed50 ?_
  refine v_dup_A F dX2_init_306 ?_
  refine v_bipush F dX2_init_307 rfl ⟨by decide, by decide⟩ ?_
  refine v_lds (tx := "WHOLE") (a := (-98)) F dX2_init_309 (List.mem_of_getElem? (i := 44) rfl) (by decide) ?_
  refine v_aastT F dX2_init_311 ar4m5 rfl (show isSb (-98) = true from rfl) ⟨by decide, by decide⟩ (fun _ _ => trivial) ?_
  obtain ⟨d51, ed51⟩ : ∃ z, z = st d50 (o + 4) 44 (-98) := ⟨_, rfl⟩
  refine v_nD ed51 ?_
  refine v_dup_A F dX2_init_312 ?_
  refine v_bipush F dX2_init_313 rfl ⟨by decide, by decide⟩ ?_
  refine v_lds (tx := "LISTS") (a := (-100)) F dX2_init_315 (List.mem_of_getElem? (i := 45) rfl) (by decide) ?_
  refine v_aastT F dX2_init_317 ar4m5 rfl (show isSb (-100) = true from rfl) ⟨by decide, by decide⟩ (fun _ _ => trivial) ?_
  obtain ⟨d52, ed52⟩ : ∃ z, z = st d51 (o + 4) 45 (-100) := ⟨_, rfl⟩
  refine v_nD ed52 ?_
  refine v_dup_A F dX2_init_318 ?_
  refine v_bipush F dX2_init_319 rfl ⟨by decide, by decide⟩ ?_
  refine v_lds (tx := "ONES") (a := (-102)) F dX2_init_321 (List.mem_of_getElem? (i := 46) rfl) (by decide) ?_
  refine v_aastT F dX2_init_323 ar4m5 rfl (show isSb (-102) = true from rfl) ⟨by decide, by decide⟩ (fun _ _ => trivial) ?_
  obtain ⟨d53, ed53⟩ : ∃ z, z = st d52 (o + 4) 46 (-102) := ⟨_, rfl⟩
  refine v_nD ed53 ?_
  refine v_dup_A F dX2_init_324 ?_
  refine v_bipush F dX2_init_325 rfl ⟨by decide, by decide⟩ ?_
  refine v_lds (tx := "ODDS") (a := (-104)) F dX2_init_327 (List.mem_of_getElem? (i := 47) rfl) (by decide) ?_
  refine v_aastT F dX2_init_329 ar4m5 rfl (show isSb (-104) = true from rfl) ⟨by decide, by decide⟩ (fun _ _ => trivial) ?_
  obtain ⟨d54, ed54⟩ : ∃ z, z = st d53 (o + 4) 47 (-104) := ⟨_, rfl⟩
  refine v_nD ed54 ?_
  refine v_dup_A F dX2_init_330 ?_
  refine v_bipush F dX2_init_331 rfl ⟨by decide, by decide⟩ ?_
  refine v_lds (tx := "STEEP") (a := (-106)) F dX2_init_333 (List.mem_of_getElem? (i := 48) rfl) (by decide) ?_
  refine v_aastT F dX2_init_335 ar4m5 rfl (show isSb (-106) = true from rfl) ⟨by decide, by decide⟩ (fun _ _ => trivial) ?_
  obtain ⟨d55, ed55⟩ : ∃ z, z = st d54 (o + 4) 48 (-106) := ⟨_, rfl⟩
  refine v_nD ed55 ?_
  refine v_dup_A F dX2_init_336 ?_
  refine v_bipush F dX2_init_337 rfl ⟨by decide, by decide⟩ ?_
  refine v_lds (tx := "HALVES") (a := (-108)) F dX2_init_339 (List.mem_of_getElem? (i := 49) rfl) (by decide) ?_
  refine v_aastT F dX2_init_341 ar4m5 rfl (show isSb (-108) = true from rfl) ⟨by decide, by decide⟩ (fun _ _ => trivial) ?_
  obtain ⟨d56, ed56⟩ : ∃ z, z = st d55 (o + 4) 49 (-108) := ⟨_, rfl⟩
  refine v_nD ed56 ?_
  refine v_dup_A F dX2_init_342 ?_
  refine v_bipush F dX2_init_343 rfl ⟨by decide, by decide⟩ ?_
  refine v_lds (tx := "MODIFIED") (a := (-110)) F dX2_init_345 (List.mem_of_getElem? (i := 50) rfl) (by decide) ?_
  refine v_aastT F dX2_init_347 ar4m5 rfl (show isSb (-110) = true from rfl) ⟨by decide, by decide⟩ (fun _ _ => trivial) ?_
  obtain ⟨d57, ed57⟩ : ∃ z, z = st d56 (o + 4) 50 (-110) := ⟨_, rfl⟩
  refine v_nD ed57 ?_
  refine v_dup_A F dX2_init_348 ?_
  refine v_bipush F dX2_init_349 rfl ⟨by decide, by decide⟩ ?_
  refine v_lds (tx := "HARE") (a := (-112)) F dX2_init_351 (List.mem_of_getElem? (i := 51) rfl) (by decide) ?_
  refine v_aastT F dX2_init_353 ar4m5 rfl (show isSb (-112) = true from rfl) ⟨by decide, by decide⟩ (fun _ _ => trivial) ?_
  obtain ⟨d58, ed58⟩ : ∃ z, z = st d57 (o + 4) 51 (-112) := ⟨_, rfl⟩
  refine v_nD ed58 ?_
  refine v_dup_A F dX2_init_354 ?_
  refine v_bipush F dX2_init_355 rfl ⟨by decide, by decide⟩ ?_
  refine v_lds (tx := "DROOP") (a := (-114)) F dX2_init_357 (List.mem_of_getElem? (i := 52) rfl) (by decide) ?_
  refine v_aastT F dX2_init_359 ar4m5 rfl (show isSb (-114) = true from rfl) ⟨by decide, by decide⟩ (fun _ _ => trivial) ?_
  obtain ⟨d59, ed59⟩ : ∃ z, z = st d58 (o + 4) 52 (-114) := ⟨_, rfl⟩
  refine v_nD ed59 ?_
  refine v_dup_A F dX2_init_360 ?_
  refine v_bipush F dX2_init_361 rfl ⟨by decide, by decide⟩ ?_
  refine v_lds (tx := "BISCHOFF") (a := (-116)) F dX2_init_363 (List.mem_of_getElem? (i := 53) rfl) (by decide) ?_
  refine v_aastT F dX2_init_365 ar4m5 rfl (show isSb (-116) = true from rfl) ⟨by decide, by decide⟩ (fun _ _ => trivial) ?_
  obtain ⟨d60, ed60⟩ : ∃ z, z = st d59 (o + 4) 53 (-116) := ⟨_, rfl⟩
  refine v_nD ed60 ?_
  refine v_dup_A F dX2_init_366 ?_
  refine v_bipush F dX2_init_367 rfl ⟨by decide, by decide⟩ ?_
  refine v_lds (tx := "DOUBLE") (a := (-118)) F dX2_init_369 (List.mem_of_getElem? (i := 54) rfl) (by decide) ?_
  refine v_aastT F dX2_init_371 ar4m5 rfl (show isSb (-118) = true from rfl) ⟨by decide, by decide⟩ (fun _ _ => trivial) ?_
  obtain ⟨d61, ed61⟩ : ∃ z, z = st d60 (o + 4) 54 (-118) := ⟨_, rfl⟩
  refine v_nD ed61 ?_
  refine cpA F fz_X2_146 (fun _ => hnm) dX2_init_372 obm5 rfl rfl ?_
  obtain ⟨d62, ed62⟩ : ∃ z, z = st d61 o 0 (o + 4) := ⟨_, rfl⟩
  refine v_nD ed62 ?_
  have ed : d62 = wr o WSX2_init d := by rw [wf_X2_init]; rw [ed62, ed61, ed60, ed59, ed58, ed57, ed56, ed55, ed54, ed53, ed52, ed51, ed50, ed49, ed48, ed47, ed46, ed45, ed44, ed43, ed42, ed41, ed40, ed39, ed38, ed37, ed36, ed35, ed34, ed33, ed32, ed31, ed30, ed29, ed28, ed27, ed26, ed25, ed24, ed23, ed22, ed21, ed20, ed19, ed18, ed17, ed16, ed15, ed14, ed13, ed12, ed11, ed10, ed9, ed8, ed7, ed6, ed5, ed4, ed3, ed2, ed1]
  have em : m5 = al TSX2_init m := by rw [tf_X2_init]; rw [em5, em4, em3, em2, em1]
  rw [← ed, ← em]
  exact v_vret F dX2_init_375
def WSX5_init : List (Int × Int × Int × Int) := [(0, 0, 1, 1)]
def TSX5_init : List (Int × Int × Int × Int) := [(101, 4000, 0, 0)]
theorem alX5_init : alN TSX5_init = 1 := rfl
theorem wf_X5_init (o : Int) (d : Dt) : wr o WSX5_init d = (st d o 0 (o + 1)) := by
  simp [WSX5_init, wr, shf, adr]
theorem tf_X5_init (m : Dt) : al TSX5_init m = (aln m ((101 : Nat) : Int) 4000) := by
  simp [TSX5_init, al]
theorem vm_X5_init {w : Wd} {l : Launch} {d m : Dt} {o : Int} (hm : m 0 0 = o + 1) (obm : OB m o 5) : VM w l XT yX5_init cX5_init 1 none 1 20 1 4000 d m [mA o] none (wr o WSX5_init d) (al TSX5_init m) := by
  have ho := obm.1
  refine VM.of (L := [mA o]) (by decide +kernel) rfl (Nat.le_of_ble_eq_true rfl) fun G F hnm => ?_
  refine v_aload_n F dX5_init_0 rfl rfl ?_
  refine v_objI F obm.1 dX5_init_1 q545 q315 q316 (Nat.le_of_ble_eq_true rfl) (Nat.le_of_ble_eq_true rfl) (Nat.le_of_ble_eq_true rfl) ?_
  refine v_aload_n F dX5_init_4 rfl rfl ?_
  refine v_sipush F dX5_init_5 rfl ⟨by decide, by decide⟩ ?_
  refine v_newa (t := 101) (ty := .int) F dX5_init_8 rfl rfl ⟨by decide, by decide⟩ rfl (fun _ _ => rfl) rfl q348 ⟨by decide, by decide⟩ (by decide) (fun _ _ => trivial) (Nat.le_of_ble_eq_true rfl) (ks' := 4000) rfl (Nat.le_of_ble_eq_true rfl) hm ?_
  obtain ⟨m1, em1⟩ : ∃ z, z = aln m ((101 : Nat) : Int) 4000 := ⟨_, rfl⟩
  refine v_nM em1 ?_
  have hm1 : m1 0 0 = (o + 2) := by rw [em1]; exact aln_nxo hm ho (by decide) rfl
  have obm1 : OB m1 o 5 := by rw [em1]; exact aln_ob obm (o_lt0 hm (by decide))
  refine cpA F fz_X5_9 (fun _ => hnm) dX5_init_10 obm1 rfl rfl ?_
  obtain ⟨d1, ed1⟩ : ∃ z, z = st d o 0 (o + 1) := ⟨_, rfl⟩
  refine v_nD ed1 ?_
  have ed : d1 = wr o WSX5_init d := by rw [wf_X5_init]; rw [ed1]
  have em : m1 = al TSX5_init m := by rw [tf_X5_init]; rw [em1]
  rw [← ed, ← em]
  exact v_vret F dX5_init_13
def WSX6_init : List (Int × Int × Int × Int) := []
def TSX6_init : List (Int × Int × Int × Int) := []
theorem alX6_init : alN TSX6_init = 0 := rfl
theorem wf_X6_init (o : Int) (d : Dt) : wr o WSX6_init d = d := by
  rfl
theorem tf_X6_init (m : Dt) : al TSX6_init m = m := by
  rfl
theorem vm_X6_init {w : Wd} {l : Launch} {d m : Dt} {o : Int} (hm : m 0 0 = o + 1) (obm : OB m o 6) : VM w l XT yX6_init cX6_init 1 none 1 20 0 0 d m [mA o] none (wr o WSX6_init d) (al TSX6_init m) := by
  have ho := obm.1
  refine VM.of (L := [mA o]) (by decide +kernel) rfl (Nat.le_of_ble_eq_true rfl) fun G F hnm => ?_
  refine v_aload_n F dX6_init_0 rfl rfl ?_
  refine v_objI F obm.1 dX6_init_1 q570 q315 q316 (Nat.le_of_ble_eq_true rfl) (Nat.le_of_ble_eq_true rfl) (Nat.le_of_ble_eq_true rfl) ?_
  have ed : d = wr o WSX6_init d := rfl
  have em : m = al TSX6_init m := rfl
  rw [← ed, ← em]
  exact v_vret F dX6_init_4
