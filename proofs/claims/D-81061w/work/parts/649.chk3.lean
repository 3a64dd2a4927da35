set_option maxRecDepth 100000
set_option maxHeartbeats 4000000
theorem chkX11 : chk WSX11_init ((((11 : Nat) : Int) + 1, 0, 0, 0) :: TSX11_init) 121 = true := chk_of rfl rfl (by decide +kernel)
theorem chkX0 : chk WSX0_init ((((0 : Nat) : Int) + 1, 0, 0, 0) :: TSX0_init) 1544 = true := chk_of rfl rfl (by decide +kernel)
