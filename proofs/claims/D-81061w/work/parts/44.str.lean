/-! the texts' own methods -/
set_option maxRecDepth 100000
section ST
variable {w : Wd} {l : Launch} {X : Dt → Dt → Prop} {d m : Dt} {a i n v : Int}
theorem vm_J5_coder (hs : isS a) : VM w l X yJ5_coder cJ5_coder 1 (some .byte) 0 0 0 0 d m [mA a] (some (mI 0)) d m := by
  refine VM.of (L := [mA a]) (by decide +kernel) rfl (Nat.le_of_ble_eq_true rfl) fun G F _ => ?_
  refine v_gst (v := mI 1) F dJ5_coder_0 q1383 F.cs ⟨by decide, by decide⟩ ?_
  refine v_if_eq F dJ5_coder_3 rfl (fun h => absurd h (by decide)) (fun _ => ?_)
  refine v_aload_n F dJ5_coder_6 rfl rfl ?_
  refine v_xget (v := mI 0) F dJ5_coder_7 (isS_neg hs).1 q3904 (F.sc hs) ⟨by decide, by decide⟩ ?_
  refine v_goto F dJ5_coder_10 rfl ?_
  exact v_nret F (by decide) dJ5_coder_14
theorem vm_J5_length (hs : isS a) : VM w l X yJ5_length cJ5_length 1 (some .int) 1 20 0 0 d m [mA a] (some (mI (sLen a))) d m := by
  refine VM.of (L := [mA a]) (by decide +kernel) rfl (Nat.le_of_ble_eq_true rfl) fun G F _ => ?_
  refine v_aload_n F dJ5_length_0 rfl rfl ?_
  refine v_xget (v := mA (a - 1)) F dJ5_length_1 (isS_neg hs).1 q3903 (F.sv hs) trivial ?_
  refine v_xlen F dJ5_length_4 (isS_neg hs).2 (F.st hs) ⟨sLen_in.1, by have := (sLen_in (a := a)).2; omega⟩ ?_
  refine v_aload_n F dJ5_length_5 rfl rfl ?_
  refine v_callVX F dJ5_length_6 cv_J5_335 rfl hs (isS_neg hs).1 rfl (vm_J5_coder hs) rfl (rOk.of rfl) ?_
  refine v_ishr F dJ5_length_9 ?_
  rw [bShr_0 (show in32 (sLen a) by have := @sLen_in a; unfold in32; omega)]
  exact v_iret F dJ5_length_10
theorem vm_J5_isLatin1 (hs : isS a) : VM w l X yJ5_isLatin1 cJ5_isLatin1 1 (some .boolean) 0 0 0 0 d m [mA a] (some (mI 1)) d m := by
  refine VM.of (L := [mA a]) (by decide +kernel) rfl (Nat.le_of_ble_eq_true rfl) fun G F _ => ?_
  refine v_gst (v := mI 1) F dJ5_isLatin1_0 q1383 F.cs ⟨by decide, by decide⟩ ?_
  refine v_if_eq F dJ5_isLatin1_3 rfl (fun h => absurd h (by decide)) (fun _ => ?_)
  refine v_aload_n F dJ5_isLatin1_6 rfl rfl ?_
  refine v_xget (v := mI 0) F dJ5_isLatin1_7 (isS_neg hs).1 q3904 (F.sc hs) ⟨by decide, by decide⟩ ?_
  refine v_if_ne F dJ5_isLatin1_10 rfl (fun h => absurd rfl h) (fun _ => ?_)
  refine v_iconst F dJ5_isLatin1_13 ⟨by decide, by decide⟩ ?_
  refine v_goto F dJ5_isLatin1_14 rfl ?_
  exact v_zret F (Or.inr rfl) dJ5_isLatin1_18
theorem vm_J7_checkIndex (hi : 0 ≤ i ∧ i < n) : VM w l X yJ7_checkIndex cJ7_checkIndex 3 (some .int) 0 0 0 0 d m [mI i, mI n, mA v] (some (mI i)) d m := by
  refine VM.of (L := [mI i, mI n, mA v]) (by decide +kernel) rfl (Nat.le_of_ble_eq_true rfl) fun G F _ => ?_
  refine v_iload_n F dJ7_checkIndex_0 rfl rfl ?_
  refine v_if_lt F dJ7_checkIndex_1 rfl (fun h => absurd h (by omega)) (fun _ => ?_)
  refine v_iload_n F dJ7_checkIndex_4 rfl rfl ?_
  refine v_iload_n F dJ7_checkIndex_5 rfl rfl ?_
  refine v_icmp_lt F dJ7_checkIndex_6 rfl (fun _ => ?_) (fun h => absurd hi.2 h)
  refine v_iload_n F dJ7_checkIndex_16 rfl rfl ?_
  exact v_iret F dJ7_checkIndex_17
theorem vm_J5_checkIndex (hi : 0 ≤ i ∧ i < n) : VM w l X yJ5_checkIndex cJ5_checkIndex 2 none 1 22 0 0 d m [mI i, mI n] none d m := by
  refine VM.of (L := [mI i, mI n]) (by decide +kernel) rfl (Nat.le_of_ble_eq_true rfl) fun G F _ => ?_
  obtain ⟨v, hv⟩ := F.2.2.2.2.2.1.2.2.2.2.2.2.2.2.2.1
  refine v_iload_n F dJ5_checkIndex_0 rfl rfl ?_
  refine v_iload_n F dJ5_checkIndex_1 rfl rfl ?_
  refine v_gst (v := mA v) F dJ5_checkIndex_2 q1399 hv trivial ?_
  refine v_callSv F dJ5_checkIndex_5 cs_J5_1059 rfl (vm_J7_checkIndex hi) rfl (rOk.of rfl) ?_
  refine v_pop_I F dJ5_checkIndex_8 ?_
  exact v_vret F dJ5_checkIndex_9
theorem vm_J6_charAt (hs : isS a) (hi : 0 ≤ i ∧ i < sLen a) : VM w l X yJ6_charAt cJ6_charAt 2 (some .char) 2 43 0 0 d m [mA (a - 1), mI i] (some (mI (sAt a i))) d m := by
  refine VM.of (L := [mA (a - 1), mI i]) (by decide +kernel) rfl (Nat.le_of_ble_eq_true rfl) fun G F _ => ?_
  refine v_iload_n F dJ6_charAt_0 rfl rfl ?_
  refine v_aload_n F dJ6_charAt_1 rfl rfl ?_
  refine v_xlen F dJ6_charAt_2 (isS_neg hs).2 (F.st hs) ⟨sLen_in.1, by have := (sLen_in (a := a)).2; omega⟩ ?_
  refine v_callS0 F dJ6_charAt_3 cs_J6_9 rfl (vm_J5_checkIndex hi) rfl (rOk.of rfl) ?_
  refine v_aload_n F dJ6_charAt_6 rfl rfl ?_
  refine v_iload_n F dJ6_charAt_7 rfl rfl ?_
  have hin := @sAt_in a i
  refine v_xbld (f := fun j => sAt a j) F dJ6_charAt_8 (isS_neg hs).2 (F.st hs) hi (by unfold in32; omega) ?_
  refine v_sipush F dJ6_charAt_9 rfl ⟨by decide, by decide⟩ ?_
  refine v_iand F dJ6_charAt_12 ?_
  refine v_i2c F dJ6_charAt_13 ?_
  rw [bAnd_255 (by omega), i2c_id (by omega)]
  refine v_nret F ?_ dJ6_charAt_14
  have e : Int32.ofInt (sAt a i) = nI (sAt a i).toNat := by
    show _ = Int32.ofNat _
    rw [← Int32.ofInt_eq_ofNat, Int.toNat_of_nonneg hin.1]
  rw [e]
  exact (pk_charN (by omega)).1
theorem vm_J5_charAt (hs : isS a) (hi : 0 ≤ i ∧ i < sLen a) : VM w l X yJ5_charAt cJ5_charAt 2 (some .char) 3 64 0 0 d m [mA a, mI i] (some (mI (sAt a i))) d m := by
  refine VM.of (L := [mA a, mI i]) (by decide +kernel) rfl (Nat.le_of_ble_eq_true rfl) fun G F _ => ?_
  refine v_aload_n F dJ5_charAt_0 rfl rfl ?_
  refine v_callVX F dJ5_charAt_1 cv_J5_492 rfl hs (isS_neg hs).1 rfl (vm_J5_isLatin1 hs) rfl (rOk.of rfl) ?_
  refine v_if_eq F dJ5_charAt_4 rfl (fun h => absurd h (by decide)) (fun _ => ?_)
  refine v_aload_n F dJ5_charAt_7 rfl rfl ?_
  refine v_xget (v := mA (a - 1)) F dJ5_charAt_8 (isS_neg hs).1 q3903 (F.sv hs) trivial ?_
  refine v_iload_n F dJ5_charAt_11 rfl rfl ?_
  refine v_callSv F dJ5_charAt_12 cs_J5_495 rfl (vm_J6_charAt hs hi) rfl (rOk.of rfl) ?_
  refine v_nret F ?_ dJ5_charAt_15
  have hin := @sAt_in a i
  have e : Int32.ofInt (sAt a i) = nI (sAt a i).toNat := by
    show _ = Int32.ofNat _
    rw [← Int32.ofInt_eq_ofNat, Int.toNat_of_nonneg hin.1]
  rw [e]
  exact (pk_charN (by omega)).1
end ST
