set_option maxRecDepth 100000
set_option maxHeartbeats 4000000
def WSX11_init : List (Int × Int × Int × Int) := [(0, 0, 1, 1), (0, 4, 2, 1), (0, 6, 3, 1), (0, 7, 4, 1), (0, 8, 5, 1), (0, 9, 6, 1), (0, 11, 7, 1), (0, 12, 8, 1), (0, 13, 9, 1), (0, 14, 10, 1), (0, 15, 11, 1), (0, 16, 12, 1), (0, 17, 13, 1), (0, 18, 14, 1), (0, 19, 15, 1), (0, 20, 16, 1), (0, 21, 17, 1), (0, 22, 18, 1), (0, 23, 19, 1), (0, 24, 20, 1), (0, 25, 21, 1), (0, 26, 22, 1), (0, 27, 23, 1), (0, 36, 24, 1), (0, 37, 25, 1), (0, 38, 26, 1), (0, 39, 27, 1), (0, 40, 28, 1), (0, 41, 29, 1), (0, 42, 30, 1), (0, 43, 31, 1), (0, 44, 32, 1), (0, 48, (-1), 0), (0, 51, 33, 1), (0, 52, 34, 1), (0, 53, 35, 1), (0, 54, 36, 1), (0, 57, 37, 1), (0, 58, 38, 1), (0, 59, 39, 1), (0, 60, 40, 1), (0, 61, 41, 1), (0, 62, 42, 1), (0, 63, 43, 1), (0, 65, 44, 1), (0, 66, 45, 1), (0, 67, 46, 1), (0, 68, 47, 1), (0, 69, 48, 1), (0, 70, 49, 1), (0, 72, 50, 1), (0, 73, 51, 1), (0, 74, 52, 1), (0, 76, 53, 1), (0, 77, 54, 1), (0, 78, 55, 1), (0, 80, 56, 1), (0, 81, 57, 1), (0, 83, 58, 1), (0, 84, 59, 1), (0, 85, 60, 1), (0, 86, 61, 1), (0, 87, 62, 1), (0, 88, 63, 1), (0, 89, 64, 1), (0, 90, 65, 1), (0, 91, 66, 1), (0, 92, 67, 1), (0, 93, 68, 1), (0, 94, 69, 1), (0, 95, 70, 1), (0, 96, 71, 1), (0, 101, 72, 1), (0, 105, 73, 1), (0, 106, 74, 1), (0, 107, 75, 1), (0, 108, 76, 1), (0, 109, 77, 1), (0, 117, 78, 1), (0, 118, 79, 1), (0, 119, 80, 1), (0, 121, 81, 1), (0, 123, 82, 1), (0, 124, 83, 1), (0, 125, 84, 1), (0, 126, 85, 1), (0, 127, 86, 1), (0, 128, 87, 1), (0, 129, 88, 1), (0, 130, 89, 1), (0, 131, 90, 1), (0, 132, 91, 1), (0, 133, 92, 1), (0, 134, 93, 1), (0, 135, 94, 1), (0, 136, 95, 1), (0, 138, 96, 1), (0, 139, 97, 1), (0, 140, 98, 1), (0, 141, 99, 1), (0, 142, 100, 1), (0, 143, 101, 1), (0, 144, 102, 1), (0, 145, 103, 1), (0, 146, 104, 1), (0, 147, 105, 1), (0, 149, 106, 1), (0, 150, 107, 1), (0, 151, 108, 1), (0, 154, 109, 1), (0, 155, 110, 1), (0, 156, 111, 1), (0, 162, 112, 1), (0, 163, 113, 1), (0, 164, 114, 1), (0, 166, 115, 1), (0, 167, 116, 1), (0, 168, 117, 1), (0, 169, 118, 1), (119, 0, 1116352408, 0), (119, 1, 1899447441, 0), (119, 2, (-1245643825), 0), (119, 3, (-373957723), 0), (119, 4, 961987163, 0), (119, 5, 1508970993, 0), (119, 6, (-1841331548), 0), (119, 7, (-1424204075), 0), (119, 8, (-670586216), 0), (119, 9, 310598401, 0), (119, 10, 607225278, 0), (119, 11, 1426881987, 0), (119, 12, 1925078388, 0), (119, 13, (-2132889090), 0), (119, 14, (-1680079193), 0), (119, 15, (-1046744716), 0), (119, 16, (-459576895), 0), (119, 17, (-272742522), 0), (119, 18, 264347078, 0), (119, 19, 604807628, 0), (119, 20, 770255983, 0), (119, 21, 1249150122, 0), (119, 22, 1555081692, 0), (119, 23, 1996064986, 0), (119, 24, (-1740746414), 0), (119, 25, (-1473132947), 0), (119, 26, (-1341970488), 0), (119, 27, (-1084653625), 0), (119, 28, (-958395405), 0), (119, 29, (-710438585), 0), (119, 30, 113926993, 0), (119, 31, 338241895, 0), (119, 32, 666307205, 0), (119, 33, 773529912, 0), (119, 34, 1294757372, 0), (119, 35, 1396182291, 0), (119, 36, 1695183700, 0), (119, 37, 1986661051, 0), (119, 38, (-2117940946), 0), (119, 39, (-1838011259), 0), (119, 40, (-1564481375), 0), (119, 41, (-1474664885), 0), (119, 42, (-1035236496), 0), (119, 43, (-949202525), 0), (119, 44, (-778901479), 0), (119, 45, (-694614492), 0), (119, 46, (-200395387), 0), (119, 47, 275423344, 0), (119, 48, 430227734, 0), (119, 49, 506948616, 0), (119, 50, 659060556, 0), (119, 51, 883997877, 0), (119, 52, 958139571, 0), (119, 53, 1322822218, 0), (119, 54, 1537002063, 0), (119, 55, 1747873779, 0), (119, 56, 1955562222, 0), (119, 57, 2024104815, 0), (119, 58, (-2067236844), 0), (119, 59, (-1933114872), 0), (119, 60, (-1866530822), 0), (119, 61, (-1538233109), 0), (119, 62, (-1090935817), 0), (119, 63, (-965641998), 0), (0, 170, 119, 1), (120, 0, 1779033703, 0), (120, 1, (-1150833019), 0), (120, 2, 1013904242, 0), (120, 3, (-1521486534), 0), (120, 4, 1359893119, 0), (120, 5, (-1694144372), 0), (120, 6, 528734635, 0), (120, 7, 1541459225, 0), (0, 171, 120, 1)]
def TSX11_init : List (Int × Int × Int × Int) := [(102, 4000, 0, 0), (101, 24, 0, 0), (101, 60, 0, 0), (101, 60, 0, 0), (101, 60, 0, 0), (101, 60, 0, 0), (101, 60, 0, 0), (101, 60, 0, 0), (101, 60, 0, 0), (101, 60, 0, 0), (101, 60, 0, 0), (101, 60, 0, 0), (101, 600, 0, 0), (101, 600, 0, 0), (101, 60, 0, 0), (101, 720, 0, 0), (101, 720, 0, 0), (101, 720, 0, 0), (101, 720, 0, 0), (101, 4002, 0, 0), (101, 4002, 0, 0), (101, 4002, 0, 0), (101, 4002, 0, 0), (101, 16008, 0, 0), (101, 4, 0, 0), (101, 2, 0, 0), (101, 82, 0, 0), (101, 82, 0, 0), (101, 82, 0, 0), (101, 82, 0, 0), (101, 20, 0, 0), (101, 96, 0, 0), (103, 32, 0, 0), (103, 32, 0, 0), (103, 32, 0, 0), (103, 32, 0, 0), (101, 54, 0, 0), (101, 54, 0, 0), (101, 54, 0, 0), (101, 54, 0, 0), (101, 54, 0, 0), (101, 54, 0, 0), (103, 3240, 0, 0), (101, 6, 0, 0), (101, 54, 0, 0), (103, 54, 0, 0), (101, 54, 0, 0), (101, 54, 0, 0), (103, 6, 0, 0), (101, 60, 0, 0), (101, 60, 0, 0), (103, 60, 0, 0), (101, 60, 0, 0), (101, 60, 0, 0), (103, 60, 0, 0), (101, 6, 0, 0), (103, 6, 0, 0), (101, 200, 0, 0), (101, 200, 0, 0), (101, 200, 0, 0), (101, 200, 0, 0), (103, 200, 0, 0), (101, 200, 0, 0), (101, 1200, 0, 0), (102, 10800, 0, 0), (102, 10800, 0, 0), (103, 200, 0, 0), (101, 7, 0, 0), (101, 1400, 0, 0), (103, 7, 0, 0), (103, 7, 0, 0), (103, 9, 0, 0), (101, 1800, 0, 0), (101, 1800, 0, 0), (101, 200, 0, 0), (104, 9, 0, 0), (101, 9, 0, 0), (104, 360, 0, 0), (101, 40, 0, 0), (101, 40, 0, 0), (101, 9, 0, 0), (101, 90, 0, 0), (101, 10, 0, 0), (101, 10, 0, 0), (101, 9, 0, 0), (101, 200, 0, 0), (104, 200, 0, 0), (103, 9, 0, 0), (101, 200, 0, 0), (104, 9, 0, 0), (101, 81, 0, 0), (101, 81, 0, 0), (103, 81, 0, 0), (103, 81, 0, 0), (101, 81, 0, 0), (101, 9, 0, 0), (101, 9, 0, 0), (101, 9, 0, 0), (101, 9, 0, 0), (103, 9, 0, 0), (101, 9, 0, 0), (101, 9, 0, 0), (101, 9, 0, 0), (101, 9, 0, 0), (101, 9, 0, 0), (101, 8, 0, 0), (103, 60, 0, 0), (104, 3721, 0, 0), (101, 200, 0, 0), (101, 200, 0, 0), (103, 200, 0, 0), (101, 200, 0, 0), (101, 200, 0, 0), (102, 32, 0, 0), (102, 64, 0, 0), (101, 64, 0, 0), (101, 8, 0, 0), (101, 8, 0, 0), (101, 64, 0, 0), (101, 8, 0, 0)]
theorem alX11_init : alN TSX11_init = 120 := rfl
theorem wf_X11_init (o : Int) (d : Dt) : wr o WSX11_init d = (st (st (st (st (st (st (st (st (st (st (st (st (st (st (st (st (st (st (st (st (st (st (st (st (st (st (st (st (st (st (st (st (st (st (st (st (st (st (st (st (st (st (st (st (st (st (st (st (st (st (st (st (st (st (st (st (st (st (st (st (st (st (st (st (st (st (st (st (st (st (st (st (st (st (st (st (st (st (st (st (st (st (st (st (st (st (st (st (st (st (st (st (st (st (st (st (st (st (st (st (st (st (st (st (st (st (st (st (st (st (st (st (st (st (st (st (st (st (st (st (st (st (st (st (st (st (st (st (st (st (st (st (st (st (st (st (st (st (st (st (st (st (st (st (st (st (st (st (st (st (st (st (st (st (st (st (st (st (st (st (st (st (st (st (st (st (st (st (st (st (st (st (st (st (st (st (st (st (st (st (st (st (st (st (st (st (st (st (st (st (st (st (st d o 0 (o + 1)) o 4 (o + 2)) o 6 (o + 3)) o 7 (o + 4)) o 8 (o + 5)) o 9 (o + 6)) o 11 (o + 7)) o 12 (o + 8)) o 13 (o + 9)) o 14 (o + 10)) o 15 (o + 11)) o 16 (o + 12)) o 17 (o + 13)) o 18 (o + 14)) o 19 (o + 15)) o 20 (o + 16)) o 21 (o + 17)) o 22 (o + 18)) o 23 (o + 19)) o 24 (o + 20)) o 25 (o + 21)) o 26 (o + 22)) o 27 (o + 23)) o 36 (o + 24)) o 37 (o + 25)) o 38 (o + 26)) o 39 (o + 27)) o 40 (o + 28)) o 41 (o + 29)) o 42 (o + 30)) o 43 (o + 31)) o 44 (o + 32)) o 48 (-1)) o 51 (o + 33)) o 52 (o + 34)) o 53 (o + 35)) o 54 (o + 36)) o 57 (o + 37)) o 58 (o + 38)) o 59 (o + 39)) o 60 (o + 40)) o 61 (o + 41)) o 62 (o + 42)) o 63 (o + 43)) o 65 (o + 44)) o 66 (o + 45)) o 67 (o + 46)) o 68 (o + 47)) o 69 (o + 48)) o 70 (o + 49)) o 72 (o + 50)) o 73 (o + 51)) o 74 (o + 52)) o 76 (o + 53)) o 77 (o + 54)) o 78 (o + 55)) o 80 (o + 56)) o 81 (o + 57)) o 83 (o + 58)) o 84 (o + 59)) o 85 (o + 60)) o 86 (o + 61)) o 87 (o + 62)) o 88 (o + 63)) o 89 (o + 64)) o 90 (o + 65)) o 91 (o + 66)) o 92 (o + 67)) o 93 (o + 68)) o 94 (o + 69)) o 95 (o + 70)) o 96 (o + 71)) o 101 (o + 72)) o 105 (o + 73)) o 106 (o + 74)) o 107 (o + 75)) o 108 (o + 76)) o 109 (o + 77)) o 117 (o + 78)) o 118 (o + 79)) o 119 (o + 80)) o 121 (o + 81)) o 123 (o + 82)) o 124 (o + 83)) o 125 (o + 84)) o 126 (o + 85)) o 127 (o + 86)) o 128 (o + 87)) o 129 (o + 88)) o 130 (o + 89)) o 131 (o + 90)) o 132 (o + 91)) o 133 (o + 92)) o 134 (o + 93)) o 135 (o + 94)) o 136 (o + 95)) o 138 (o + 96)) o 139 (o + 97)) o 140 (o + 98)) o 141 (o + 99)) o 142 (o + 100)) o 143 (o + 101)) o 144 (o + 102)) o 145 (o + 103)) o 146 (o + 104)) o 147 (o + 105)) o 149 (o + 106)) o 150 (o + 107)) o 151 (o + 108)) o 154 (o + 109)) o 155 (o + 110)) o 156 (o + 111)) o 162 (o + 112)) o 163 (o + 113)) o 164 (o + 114)) o 166 (o + 115)) o 167 (o + 116)) o 168 (o + 117)) o 169 (o + 118)) (o + 119) 0 1116352408) (o + 119) 1 1899447441) (o + 119) 2 (-1245643825)) (o + 119) 3 (-373957723)) (o + 119) 4 961987163) (o + 119) 5 1508970993) (o + 119) 6 (-1841331548)) (o + 119) 7 (-1424204075)) (o + 119) 8 (-670586216)) (o + 119) 9 310598401) (o + 119) 10 607225278) (o + 119) 11 1426881987) (o + 119) 12 1925078388) (o + 119) 13 (-2132889090)) (o + 119) 14 (-1680079193)) (o + 119) 15 (-1046744716)) (o + 119) 16 (-459576895)) (o + 119) 17 (-272742522)) (o + 119) 18 264347078) (o + 119) 19 604807628) (o + 119) 20 770255983) (o + 119) 21 1249150122) (o + 119) 22 1555081692) (o + 119) 23 1996064986) (o + 119) 24 (-1740746414)) (o + 119) 25 (-1473132947)) (o + 119) 26 (-1341970488)) (o + 119) 27 (-1084653625)) (o + 119) 28 (-958395405)) (o + 119) 29 (-710438585)) (o + 119) 30 113926993) (o + 119) 31 338241895) (o + 119) 32 666307205) (o + 119) 33 773529912) (o + 119) 34 1294757372) (o + 119) 35 1396182291) (o + 119) 36 1695183700) (o + 119) 37 1986661051) (o + 119) 38 (-2117940946)) (o + 119) 39 (-1838011259)) (o + 119) 40 (-1564481375)) (o + 119) 41 (-1474664885)) (o + 119) 42 (-1035236496)) (o + 119) 43 (-949202525)) (o + 119) 44 (-778901479)) (o + 119) 45 (-694614492)) (o + 119) 46 (-200395387)) (o + 119) 47 275423344) (o + 119) 48 430227734) (o + 119) 49 506948616) (o + 119) 50 659060556) (o + 119) 51 883997877) (o + 119) 52 958139571) (o + 119) 53 1322822218) (o + 119) 54 1537002063) (o + 119) 55 1747873779) (o + 119) 56 1955562222) (o + 119) 57 2024104815) (o + 119) 58 (-2067236844)) (o + 119) 59 (-1933114872)) (o + 119) 60 (-1866530822)) (o + 119) 61 (-1538233109)) (o + 119) 62 (-1090935817)) (o + 119) 63 (-965641998)) o 170 (o + 119)) (o + 120) 0 1779033703) (o + 120) 1 (-1150833019)) (o + 120) 2 1013904242) (o + 120) 3 (-1521486534)) (o + 120) 4 1359893119) (o + 120) 5 (-1694144372)) (o + 120) 6 528734635) (o + 120) 7 1541459225) o 171 (o + 120)) := by
  simp [WSX11_init, wr, shf, adr]
theorem tf_X11_init (m : Dt) : al TSX11_init m = (aln (aln (aln (aln (aln (aln (aln (aln (aln (aln (aln (aln (aln (aln (aln (aln (aln (aln (aln (aln (aln (aln (aln (aln (aln (aln (aln (aln (aln (aln (aln (aln (aln (aln (aln (aln (aln (aln (aln (aln (aln (aln (aln (aln (aln (aln (aln (aln (aln (aln (aln (aln (aln (aln (aln (aln (aln (aln (aln (aln (aln (aln (aln (aln (aln (aln (aln (aln (aln (aln (aln (aln (aln (aln (aln (aln (aln (aln (aln (aln (aln (aln (aln (aln (aln (aln (aln (aln (aln (aln (aln (aln (aln (aln (aln (aln (aln (aln (aln (aln (aln (aln (aln (aln (aln (aln (aln (aln (aln (aln (aln (aln (aln (aln (aln (aln (aln (aln (aln (aln m ((102 : Nat) : Int) 4000) ((101 : Nat) : Int) 24) ((101 : Nat) : Int) 60) ((101 : Nat) : Int) 60) ((101 : Nat) : Int) 60) ((101 : Nat) : Int) 60) ((101 : Nat) : Int) 60) ((101 : Nat) : Int) 60) ((101 : Nat) : Int) 60) ((101 : Nat) : Int) 60) ((101 : Nat) : Int) 60) ((101 : Nat) : Int) 60) ((101 : Nat) : Int) 600) ((101 : Nat) : Int) 600) ((101 : Nat) : Int) 60) ((101 : Nat) : Int) 720) ((101 : Nat) : Int) 720) ((101 : Nat) : Int) 720) ((101 : Nat) : Int) 720) ((101 : Nat) : Int) 4002) ((101 : Nat) : Int) 4002) ((101 : Nat) : Int) 4002) ((101 : Nat) : Int) 4002) ((101 : Nat) : Int) 16008) ((101 : Nat) : Int) 4) ((101 : Nat) : Int) 2) ((101 : Nat) : Int) 82) ((101 : Nat) : Int) 82) ((101 : Nat) : Int) 82) ((101 : Nat) : Int) 82) ((101 : Nat) : Int) 20) ((101 : Nat) : Int) 96) ((103 : Nat) : Int) 32) ((103 : Nat) : Int) 32) ((103 : Nat) : Int) 32) ((103 : Nat) : Int) 32) ((101 : Nat) : Int) 54) ((101 : Nat) : Int) 54) ((101 : Nat) : Int) 54) ((101 : Nat) : Int) 54) ((101 : Nat) : Int) 54) ((101 : Nat) : Int) 54) ((103 : Nat) : Int) 3240) ((101 : Nat) : Int) 6) ((101 : Nat) : Int) 54) ((103 : Nat) : Int) 54) ((101 : Nat) : Int) 54) ((101 : Nat) : Int) 54) ((103 : Nat) : Int) 6) ((101 : Nat) : Int) 60) ((101 : Nat) : Int) 60) ((103 : Nat) : Int) 60) ((101 : Nat) : Int) 60) ((101 : Nat) : Int) 60) ((103 : Nat) : Int) 60) ((101 : Nat) : Int) 6) ((103 : Nat) : Int) 6) ((101 : Nat) : Int) 200) ((101 : Nat) : Int) 200) ((101 : Nat) : Int) 200) ((101 : Nat) : Int) 200) ((103 : Nat) : Int) 200) ((101 : Nat) : Int) 200) ((101 : Nat) : Int) 1200) ((102 : Nat) : Int) 10800) ((102 : Nat) : Int) 10800) ((103 : Nat) : Int) 200) ((101 : Nat) : Int) 7) ((101 : Nat) : Int) 1400) ((103 : Nat) : Int) 7) ((103 : Nat) : Int) 7) ((103 : Nat) : Int) 9) ((101 : Nat) : Int) 1800) ((101 : Nat) : Int) 1800) ((101 : Nat) : Int) 200) ((104 : Nat) : Int) 9) ((101 : Nat) : Int) 9) ((104 : Nat) : Int) 360) ((101 : Nat) : Int) 40) ((101 : Nat) : Int) 40) ((101 : Nat) : Int) 9) ((101 : Nat) : Int) 90) ((101 : Nat) : Int) 10) ((101 : Nat) : Int) 10) ((101 : Nat) : Int) 9) ((101 : Nat) : Int) 200) ((104 : Nat) : Int) 200) ((103 : Nat) : Int) 9) ((101 : Nat) : Int) 200) ((104 : Nat) : Int) 9) ((101 : Nat) : Int) 81) ((101 : Nat) : Int) 81) ((103 : Nat) : Int) 81) ((103 : Nat) : Int) 81) ((101 : Nat) : Int) 81) ((101 : Nat) : Int) 9) ((101 : Nat) : Int) 9) ((101 : Nat) : Int) 9) ((101 : Nat) : Int) 9) ((103 : Nat) : Int) 9) ((101 : Nat) : Int) 9) ((101 : Nat) : Int) 9) ((101 : Nat) : Int) 9) ((101 : Nat) : Int) 9) ((101 : Nat) : Int) 9) ((101 : Nat) : Int) 8) ((103 : Nat) : Int) 60) ((104 : Nat) : Int) 3721) ((101 : Nat) : Int) 200) ((101 : Nat) : Int) 200) ((103 : Nat) : Int) 200) ((101 : Nat) : Int) 200) ((101 : Nat) : Int) 200) ((102 : Nat) : Int) 32) ((102 : Nat) : Int) 64) ((101 : Nat) : Int) 64) ((101 : Nat) : Int) 8) ((101 : Nat) : Int) 8) ((101 : Nat) : Int) 64) ((101 : Nat) : Int) 8) := by
  simp [TSX11_init, al]
theorem w0_X11_init {w : Wd} {l : Launch} {G : Cx} {Q : State → Prop} {d m : Dt} {o : Int} (F : Fx w G cX11_init RX11 3 none { frames := 1, cells := 120, slots := 81688, locals := 20 }) (hnm : G.2.2.2.2.2.2.2.1.name = yX11_init.name) (hm : m 0 0 = o + 1) (obm : OB m o 11) (kk : V w l XT G Q (wr o WSX11_init d) (al TSX11_init m) 120 81688 1496 [mA o, mU, mU] []) : V w l XT G Q d m 0 0 0 [mA o, mU, mU] [] := by
  have ho := obm.1
  refine v_aload_n F dX11_init_0 rfl rfl ?_
  refine v_objI F obm.1 dX11_init_1 q3272 q315 q316 (Nat.le_of_ble_eq_true rfl) (Nat.le_of_ble_eq_true rfl) (Nat.le_of_ble_eq_true rfl) ?_
  refine v_aload_n F dX11_init_4 rfl rfl ?_
  refine v_sipush F dX11_init_5 rfl ⟨by decide, by decide⟩ ?_
  refine v_newa (t := 102) (ty := .byte) F dX11_init_8 rfl rfl ⟨by decide, by decide⟩ rfl (fun _ _ => rfl) rfl q347 ⟨by decide, by decide⟩ (by decide) (fun _ _ => trivial) (Nat.le_of_ble_eq_true rfl) (ks' := 4000) rfl (Nat.le_of_ble_eq_true rfl) hm ?_
  obtain ⟨m1, em1⟩ : ∃ z, z = aln m ((102 : Nat) : Int) 4000 := ⟨_, rfl⟩
  refine v_nM em1 ?_
  have hm1 : m1 0 0 = (o + 2) := by rw [em1]; exact aln_nxo hm ho (by decide) rfl
  have obm1 : OB m1 o 11 := by rw [em1]; exact aln_ob obm (o_lt0 hm (by decide))
  refine cpA F fz_X11_9 (fun _ => hnm) dX11_init_10 obm1 rfl rfl ?_
  obtain ⟨d1, ed1⟩ : ∃ z, z = st d o 0 (o + 1) := ⟨_, rfl⟩
  refine v_nD ed1 ?_
  refine v_aload_n F dX11_init_13 rfl rfl ?_
  refine v_bipush F dX11_init_14 rfl ⟨by decide, by decide⟩ ?_
  refine v_newa (t := 101) (ty := .int) F dX11_init_16 rfl rfl ⟨by decide, by decide⟩ rfl (fun _ _ => rfl) rfl q348 ⟨by decide, by decide⟩ (by decide) (fun _ _ => trivial) (Nat.le_of_ble_eq_true rfl) (ks' := 4024) rfl (Nat.le_of_ble_eq_true rfl) hm1 ?_
  obtain ⟨m2, em2⟩ : ∃ z, z = aln m1 ((101 : Nat) : Int) 24 := ⟨_, rfl⟩
  refine v_nM em2 ?_
  have hm2 : m2 0 0 = (o + 3) := by rw [em2]; exact aln_nxo hm1 ho (by decide) rfl
  have obm2 : OB m2 o 11 := by rw [em2]; exact aln_ob obm1 (o_lt0 hm1 (by decide))
  refine cpA F fz_X11_64 (fun _ => hnm) dX11_init_18 obm2 rfl rfl ?_
  obtain ⟨d2, ed2⟩ : ∃ z, z = st d1 o 4 (o + 2) := ⟨_, rfl⟩
  refine v_nD ed2 ?_
  refine v_aload_n F dX11_init_21 rfl rfl ?_
  refine v_bipush F dX11_init_22 rfl ⟨by decide, by decide⟩ ?_
  refine v_newa (t := 101) (ty := .int) F dX11_init_24 rfl rfl ⟨by decide, by decide⟩ rfl (fun _ _ => rfl) rfl q348 ⟨by decide, by decide⟩ (by decide) (fun _ _ => trivial) (Nat.le_of_ble_eq_true rfl) (ks' := 4084) rfl (Nat.le_of_ble_eq_true rfl) hm2 ?_
  obtain ⟨m3, em3⟩ : ∃ z, z = aln m2 ((101 : Nat) : Int) 60 := ⟨_, rfl⟩
  refine v_nM em3 ?_
  have hm3 : m3 0 0 = (o + 4) := by rw [em3]; exact aln_nxo hm2 ho (by decide) rfl
  have obm3 : OB m3 o 11 := by rw [em3]; exact aln_ob obm2 (o_lt0 hm2 (by decide))
  refine cpA F fz_X11_77 (fun _ => hnm) dX11_init_26 obm3 rfl rfl ?_
  obtain ⟨d3, ed3⟩ : ∃ z, z = st d2 o 6 (o + 3) := ⟨_, rfl⟩
  refine v_nD ed3 ?_
  refine v_aload_n F dX11_init_29 rfl rfl ?_
  refine v_bipush F dX11_init_30 rfl ⟨by decide, by decide⟩ ?_
  refine v_newa (t := 101) (ty := .int) F dX11_init_32 rfl rfl ⟨by decide, by decide⟩ rfl (fun _ _ => rfl) rfl q348 ⟨by decide, by decide⟩ (by decide) (fun _ _ => trivial) (Nat.le_of_ble_eq_true rfl) (ks' := 4144) rfl (Nat.le_of_ble_eq_true rfl) hm3 ?_
  obtain ⟨m4, em4⟩ : ∃ z, z = aln m3 ((101 : Nat) : Int) 60 := ⟨_, rfl⟩
  refine v_nM em4 ?_
  have hm4 : m4 0 0 = (o + 5) := by rw [em4]; exact aln_nxo hm3 ho (by decide) rfl
  have obm4 : OB m4 o 11 := by rw [em4]; exact aln_ob obm3 (o_lt0 hm3 (by decide))
  refine cpA F fz_X11_80 (fun _ => hnm) dX11_init_34 obm4 rfl rfl ?_
  obtain ⟨d4, ed4⟩ : ∃ z, z = st d3 o 7 (o + 4) := ⟨_, rfl⟩
  refine v_nD ed4 ?_
  refine v_aload_n F dX11_init_37 rfl rfl ?_
  refine v_bipush F dX11_init_38 rfl ⟨by decide, by decide⟩ ?_
  refine v_newa (t := 101) (ty := .int) F dX11_init_40 rfl rfl ⟨by decide, by decide⟩ rfl (fun _ _ => rfl) rfl q348 ⟨by decide, by decide⟩ (by decide) (fun _ _ => trivial) (Nat.le_of_ble_eq_true rfl) (ks' := 4204) rfl (Nat.le_of_ble_eq_true rfl) hm4 ?_
  obtain ⟨m5, em5⟩ : ∃ z, z = aln m4 ((101 : Nat) : Int) 60 := ⟨_, rfl⟩
  refine v_nM em5 ?_
  have hm5 : m5 0 0 = (o + 6) := by rw [em5]; exact aln_nxo hm4 ho (by decide) rfl
  have obm5 : OB m5 o 11 := by rw [em5]; exact aln_ob obm4 (o_lt0 hm4 (by decide))
  refine cpA F fz_X11_83 (fun _ => hnm) dX11_init_42 obm5 rfl rfl ?_
  obtain ⟨d5, ed5⟩ : ∃ z, z = st d4 o 8 (o + 5) := ⟨_, rfl⟩
  refine v_nD ed5 ?_
  refine v_aload_n F dX11_init_45 rfl rfl ?_
  refine v_bipush F dX11_init_46 rfl ⟨by decide, by decide⟩ ?_
  refine v_newa (t := 101) (ty := .int) F dX11_init_48 rfl rfl ⟨by decide, by decide⟩ rfl (fun _ _ => rfl) rfl q348 ⟨by decide, by decide⟩ (by decide) (fun _ _ => trivial) (Nat.le_of_ble_eq_true rfl) (ks' := 4264) rfl (Nat.le_of_ble_eq_true rfl) hm5 ?_
  obtain ⟨m6, em6⟩ : ∃ z, z = aln m5 ((101 : Nat) : Int) 60 := ⟨_, rfl⟩
  refine v_nM em6 ?_
  have hm6 : m6 0 0 = (o + 7) := by rw [em6]; exact aln_nxo hm5 ho (by decide) rfl
  have obm6 : OB m6 o 11 := by rw [em6]; exact aln_ob obm5 (o_lt0 hm5 (by decide))
  refine cpA F fz_X11_86 (fun _ => hnm) dX11_init_50 obm6 rfl rfl ?_
  obtain ⟨d6, ed6⟩ : ∃ z, z = st d5 o 9 (o + 6) := ⟨_, rfl⟩
  refine v_nD ed6 ?_
  refine v_aload_n F dX11_init_53 rfl rfl ?_
  refine v_bipush F dX11_init_54 rfl ⟨by decide, by decide⟩ ?_
  refine v_newa (t := 101) (ty := .int) F dX11_init_56 rfl rfl ⟨by decide, by decide⟩ rfl (fun _ _ => rfl) rfl q348 ⟨by decide, by decide⟩ (by decide) (fun _ _ => trivial) (Nat.le_of_ble_eq_true rfl) (ks' := 4324) rfl (Nat.le_of_ble_eq_true rfl) hm6 ?_
  obtain ⟨m7, em7⟩ : ∃ z, z = aln m6 ((101 : Nat) : Int) 60 := ⟨_, rfl⟩
  refine v_nM em7 ?_
  have hm7 : m7 0 0 = (o + 8) := by rw [em7]; exact aln_nxo hm6 ho (by decide) rfl
  have obm7 : OB m7 o 11 := by rw [em7]; exact aln_ob obm6 (o_lt0 hm6 (by decide))
  refine cpA F fz_X11_95 (fun _ => hnm) dX11_init_58 obm7 rfl rfl ?_
  obtain ⟨d7, ed7⟩ : ∃ z, z = st d6 o 11 (o + 7) := ⟨_, rfl⟩
  refine v_nD ed7 ?_
  refine v_aload_n F dX11_init_61 rfl rfl ?_
  refine v_bipush F dX11_init_62 rfl ⟨by decide, by decide⟩ ?_
  refine v_newa (t := 101) (ty := .int) F dX11_init_64 rfl rfl ⟨by decide, by decide⟩ rfl (fun _ _ => rfl) rfl q348 ⟨by decide, by decide⟩ (by decide) (fun _ _ => trivial) (Nat.le_of_ble_eq_true rfl) (ks' := 4384) rfl (Nat.le_of_ble_eq_true rfl) hm7 ?_
  obtain ⟨m8, em8⟩ : ∃ z, z = aln m7 ((101 : Nat) : Int) 60 := ⟨_, rfl⟩
  refine v_nM em8 ?_
  have hm8 : m8 0 0 = (o + 9) := by rw [em8]; exact aln_nxo hm7 ho (by decide) rfl
  have obm8 : OB m8 o 11 := by rw [em8]; exact aln_ob obm7 (o_lt0 hm7 (by decide))
  refine cpA F fz_X11_98 (fun _ => hnm) dX11_init_66 obm8 rfl rfl ?_
  obtain ⟨d8, ed8⟩ : ∃ z, z = st d7 o 12 (o + 8) := ⟨_, rfl⟩
  refine v_nD ed8 ?_
  refine v_aload_n F dX11_init_69 rfl rfl ?_
  refine v_bipush F dX11_init_70 rfl ⟨by decide, by decide⟩ ?_
  refine v_newa (t := 101) (ty := .int) F dX11_init_72 rfl rfl ⟨by decide, by decide⟩ rfl (fun _ _ => rfl) rfl q348 ⟨by decide, by decide⟩ (by decide) (fun _ _ => trivial) (Nat.le_of_ble_eq_true rfl) (ks' := 4444) rfl (Nat.le_of_ble_eq_true rfl) hm8 ?_
  obtain ⟨m9, em9⟩ : ∃ z, z = aln m8 ((101 : Nat) : Int) 60 := ⟨_, rfl⟩
  refine v_nM em9 ?_
  have hm9 : m9 0 0 = (o + 10) := by rw [em9]; exact aln_nxo hm8 ho (by decide) rfl
  have obm9 : OB m9 o 11 := by rw [em9]; exact aln_ob obm8 (o_lt0 hm8 (by decide))
  refine cpA F fz_X11_101 (fun _ => hnm) dX11_init_74 obm9 rfl rfl ?_
  obtain ⟨d9, ed9⟩ : ∃ z, z = st d8 o 13 (o + 9) := ⟨_, rfl⟩
  refine v_nD ed9 ?_
  refine v_aload_n F dX11_init_77 rfl rfl ?_
  refine v_bipush F dX11_init_78 rfl ⟨by decide, by decide⟩ ?_
  refine v_newa (t := 101) (ty := .int) F dX11_init_80 rfl rfl ⟨by decide, by decide⟩ rfl (fun _ _ => rfl) rfl q348 ⟨by decide, by decide⟩ (by decide) (fun _ _ => trivial) (Nat.le_of_ble_eq_true rfl) (ks' := 4504) rfl (Nat.le_of_ble_eq_true rfl) hm9 ?_
  obtain ⟨m10, em10⟩ : ∃ z, z = aln m9 ((101 : Nat) : Int) 60 := ⟨_, rfl⟩
  refine v_nM em10 ?_
  have hm10 : m10 0 0 = (o + 11) := by rw [em10]; exact aln_nxo hm9 ho (by decide) rfl
  have obm10 : OB m10 o 11 := by rw [em10]; exact aln_ob obm9 (o_lt0 hm9 (by decide))
  refine cpA F fz_X11_104 (fun _ => hnm) dX11_init_82 obm10 rfl rfl ?_
  obtain ⟨d10, ed10⟩ : ∃ z, z = st d9 o 14 (o + 10) := ⟨_, rfl⟩
  refine v_nD ed10 ?_
  refine v_aload_n F dX11_init_85 rfl rfl ?_
  refine v_bipush F dX11_init_86 rfl ⟨by decide, by decide⟩ ?_
  refine v_newa (t := 101) (ty := .int) F dX11_init_88 rfl rfl ⟨by decide, by decide⟩ rfl (fun _ _ => rfl) rfl q348 ⟨by decide, by decide⟩ (by decide) (fun _ _ => trivial) (Nat.le_of_ble_eq_true rfl) (ks' := 4564) rfl (Nat.le_of_ble_eq_true rfl) hm10 ?_
  obtain ⟨m11, em11⟩ : ∃ z, z = aln m10 ((101 : Nat) : Int) 60 := ⟨_, rfl⟩
  refine v_nM em11 ?_
  have hm11 : m11 0 0 = (o + 12) := by rw [em11]; exact aln_nxo hm10 ho (by decide) rfl
  have obm11 : OB m11 o 11 := by rw [em11]; exact aln_ob obm10 (o_lt0 hm10 (by decide))
  refine cpA F fz_X11_107 (fun _ => hnm) dX11_init_90 obm11 rfl rfl ?_
  obtain ⟨d11, ed11⟩ : ∃ z, z = st d10 o 15 (o + 11) := ⟨_, rfl⟩
  refine v_nD ed11 ?_
  refine v_aload_n F dX11_init_93 rfl rfl ?_
  refine v_bipush F dX11_init_94 rfl ⟨by decide, by decide⟩ ?_
  refine v_newa (t := 101) (ty := .int) F dX11_init_96 rfl rfl ⟨by decide, by decide⟩ rfl (fun _ _ => rfl) rfl q348 ⟨by decide, by decide⟩ (by decide) (fun _ _ => trivial) (Nat.le_of_ble_eq_true rfl) (ks' := 4624) rfl (Nat.le_of_ble_eq_true rfl) hm11 ?_
  obtain ⟨m12, em12⟩ : ∃ z, z = aln m11 ((101 : Nat) : Int) 60 := ⟨_, rfl⟩
  refine v_nM em12 ?_
  have hm12 : m12 0 0 = (o + 13) := by rw [em12]; exact aln_nxo hm11 ho (by decide) rfl
  have obm12 : OB m12 o 11 := by rw [em12]; exact aln_ob obm11 (o_lt0 hm11 (by decide))
  refine cpA F fz_X11_115 (fun _ => hnm) dX11_init_98 obm12 rfl rfl ?_
  obtain ⟨d12, ed12⟩ : ∃ z, z = st d11 o 16 (o + 12) := ⟨_, rfl⟩
  refine v_nD ed12 ?_
  refine v_aload_n F dX11_init_101 rfl rfl ?_
  refine v_sipush F dX11_init_102 rfl ⟨by decide, by decide⟩ ?_
  refine v_newa (t := 101) (ty := .int) F dX11_init_105 rfl rfl ⟨by decide, by decide⟩ rfl (fun _ _ => rfl) rfl q348 ⟨by decide, by decide⟩ (by decide) (fun _ _ => trivial) (Nat.le_of_ble_eq_true rfl) (ks' := 5224) rfl (Nat.le_of_ble_eq_true rfl) hm12 ?_
  obtain ⟨m13, em13⟩ : ∃ z, z = aln m12 ((101 : Nat) : Int) 600 := ⟨_, rfl⟩
  refine v_nM em13 ?_
  have hm13 : m13 0 0 = (o + 14) := by rw [em13]; exact aln_nxo hm12 ho (by decide) rfl
  have obm13 : OB m13 o 11 := by rw [em13]; exact aln_ob obm12 (o_lt0 hm12 (by decide))
  refine cpA F fz_X11_118 (fun _ => hnm) dX11_init_107 obm13 rfl rfl ?_
  obtain ⟨d13, ed13⟩ : ∃ z, z = st d12 o 17 (o + 13) := ⟨_, rfl⟩
  refine v_nD ed13 ?_
  refine v_aload_n F dX11_init_110 rfl rfl ?_
  refine v_sipush F dX11_init_111 rfl ⟨by decide, by decide⟩ ?_
  refine v_newa (t := 101) (ty := .int) F dX11_init_114 rfl rfl ⟨by decide, by decide⟩ rfl (fun _ _ => rfl) rfl q348 ⟨by decide, by decide⟩ (by decide) (fun _ _ => trivial) (Nat.le_of_ble_eq_true rfl) (ks' := 5824) rfl (Nat.le_of_ble_eq_true rfl) hm13 ?_
  obtain ⟨m14, em14⟩ : ∃ z, z = aln m13 ((101 : Nat) : Int) 600 := ⟨_, rfl⟩
  refine v_nM em14 ?_
  have hm14 : m14 0 0 = (o + 15) := by rw [em14]; exact aln_nxo hm13 ho (by decide) rfl
  have obm14 : OB m14 o 11 := by rw [em14]; exact aln_ob obm13 (o_lt0 hm13 (by decide))
  refine cpA F fz_X11_121 (fun _ => hnm) dX11_init_116 obm14 rfl rfl ?_
  obtain ⟨d14, ed14⟩ : ∃ z, z = st d13 o 18 (o + 14) := ⟨_, rfl⟩
  refine v_nD ed14 ?_
  refine v_aload_n F dX11_init_119 rfl rfl ?_
  refine v_bipush F dX11_init_120 rfl ⟨by decide, by decide⟩ ?_
  refine v_newa (t := 101) (ty := .int) F dX11_init_122 rfl rfl ⟨by decide, by decide⟩ rfl (fun _ _ => rfl) rfl q348 ⟨by decide, by decide⟩ (by decide) (fun _ _ => trivial) (Nat.le_of_ble_eq_true rfl) (ks' := 5884) rfl (Nat.le_of_ble_eq_true rfl) hm14 ?_
  obtain ⟨m15, em15⟩ : ∃ z, z = aln m14 ((101 : Nat) : Int) 60 := ⟨_, rfl⟩
  refine v_nM em15 ?_
  have hm15 : m15 0 0 = (o + 16) := by rw [em15]; exact aln_nxo hm14 ho (by decide) rfl
  have obm15 : OB m15 o 11 := by rw [em15]; exact aln_ob obm14 (o_lt0 hm14 (by decide))
  refine cpA F fz_X11_126 (fun _ => hnm) dX11_init_124 obm15 rfl rfl ?_
  obtain ⟨d15, ed15⟩ : ∃ z, z = st d14 o 19 (o + 15) := ⟨_, rfl⟩
  refine v_nD ed15 ?_
  refine v_aload_n F dX11_init_127 rfl rfl ?_
  refine v_sipush F dX11_init_128 rfl ⟨by decide, by decide⟩ ?_
  refine v_newa (t := 101) (ty := .int) F dX11_init_131 rfl rfl ⟨by decide, by decide⟩ rfl (fun _ _ => rfl) rfl q348 ⟨by decide, by decide⟩ (by decide) (fun _ _ => trivial) (Nat.le_of_ble_eq_true rfl) (ks' := 6604) rfl (Nat.le_of_ble_eq_true rfl) hm15 ?_
  obtain ⟨m16, em16⟩ : ∃ z, z = aln m15 ((101 : Nat) : Int) 720 := ⟨_, rfl⟩
  refine v_nM em16 ?_
  have hm16 : m16 0 0 = (o + 17) := by rw [em16]; exact aln_nxo hm15 ho (by decide) rfl
  have obm16 : OB m16 o 11 := by rw [em16]; exact aln_ob obm15 (o_lt0 hm15 (by decide))
  refine cpA F fz_X11_129 (fun _ => hnm) dX11_init_133 obm16 rfl rfl ?_
  obtain ⟨d16, ed16⟩ : ∃ z, z = st d15 o 20 (o + 16) := ⟨_, rfl⟩
  refine v_nD ed16 ?_
  refine v_aload_n F dX11_init_136 rfl rfl ?_
  refine v_sipush F dX11_init_137 rfl ⟨by decide, by decide⟩ ?_
  refine v_newa (t := 101) (ty := .int) F dX11_init_140 rfl rfl ⟨by decide, by decide⟩ rfl (fun _ _ => rfl) rfl q348 ⟨by decide, by decide⟩ (by decide) (fun _ _ => trivial) (Nat.le_of_ble_eq_true rfl) (ks' := 7324) rfl (Nat.le_of_ble_eq_true rfl) hm16 ?_
  obtain ⟨m17, em17⟩ : ∃ z, z = aln m16 ((101 : Nat) : Int) 720 := ⟨_, rfl⟩
  refine v_nM em17 ?_
  have hm17 : m17 0 0 = (o + 18) := by rw [em17]; exact aln_nxo hm16 ho (by decide) rfl
  have obm17 : OB m17 o 11 := by rw [em17]; exact aln_ob obm16 (o_lt0 hm16 (by decide))
  refine cpA F fz_X11_132 (fun _ => hnm) dX11_init_142 obm17 rfl rfl ?_
  obtain ⟨d17, ed17⟩ : ∃ z, z = st d16 o 21 (o + 17) := ⟨_, rfl⟩
  refine v_nD ed17 ?_
  refine v_aload_n F dX11_init_145 rfl rfl ?_
  refine v_sipush F dX11_init_146 rfl ⟨by decide, by decide⟩ ?_
  refine v_newa (t := 101) (ty := .int) F dX11_init_149 rfl rfl ⟨by decide, by decide⟩ rfl (fun _ _ => rfl) rfl q348 ⟨by decide, by decide⟩ (by decide) (fun _ _ => trivial) (Nat.le_of_ble_eq_true rfl) (ks' := 8044) rfl (Nat.le_of_ble_eq_true rfl) hm17 ?_
  obtain ⟨m18, em18⟩ : ∃ z, z = aln m17 ((101 : Nat) : Int) 720 := ⟨_, rfl⟩
  refine v_nM em18 ?_
  have hm18 : m18 0 0 = (o + 19) := by rw [em18]; exact aln_nxo hm17 ho (by decide) rfl
  have obm18 : OB m18 o 11 := by rw [em18]; exact aln_ob obm17 (o_lt0 hm17 (by decide))
  refine cpA F fz_X11_135 (fun _ => hnm) dX11_init_151 obm18 rfl rfl ?_
  obtain ⟨d18, ed18⟩ : ∃ z, z = st d17 o 22 (o + 18) := ⟨_, rfl⟩
  refine v_nD ed18 ?_
  refine v_aload_n F dX11_init_154 rfl rfl ?_
  refine v_sipush F dX11_init_155 rfl ⟨by decide, by decide⟩ ?_
  refine v_newa (t := 101) (ty := .int) F dX11_init_158 rfl rfl ⟨by decide, by decide⟩ rfl (fun _ _ => rfl) rfl q348 ⟨by decide, by decide⟩ (by decide) (fun _ _ => trivial) (Nat.le_of_ble_eq_true rfl) (ks' := 8764) rfl (Nat.le_of_ble_eq_true rfl) hm18 ?_
  obtain ⟨m19, em19⟩ : ∃ z, z = aln m18 ((101 : Nat) : Int) 720 := ⟨_, rfl⟩
  refine v_nM em19 ?_
  have hm19 : m19 0 0 = (o + 20) := by rw [em19]; exact aln_nxo hm18 ho (by decide) rfl
  have obm19 : OB m19 o 11 := by rw [em19]; exact aln_ob obm18 (o_lt0 hm18 (by decide))
  refine cpA F fz_X11_138 (fun _ => hnm) dX11_init_160 obm19 rfl rfl ?_
  obtain ⟨d19, ed19⟩ : ∃ z, z = st d18 o 23 (o + 19) := ⟨_, rfl⟩
  refine v_nD ed19 ?_
  refine v_aload_n F dX11_init_163 rfl rfl ?_
  refine v_sipush F dX11_init_164 rfl ⟨by decide, by decide⟩ ?_
  refine v_newa (t := 101) (ty := .int) F dX11_init_167 rfl rfl ⟨by decide, by decide⟩ rfl (fun _ _ => rfl) rfl q348 ⟨by decide, by decide⟩ (by decide) (fun _ _ => trivial) (Nat.le_of_ble_eq_true rfl) (ks' := 12766) rfl (Nat.le_of_ble_eq_true rfl) hm19 ?_
  obtain ⟨m20, em20⟩ : ∃ z, z = aln m19 ((101 : Nat) : Int) 4002 := ⟨_, rfl⟩
  refine v_nM em20 ?_
  have hm20 : m20 0 0 = (o + 21) := by rw [em20]; exact aln_nxo hm19 ho (by decide) rfl
  have obm20 : OB m20 o 11 := by rw [em20]; exact aln_ob obm19 (o_lt0 hm19 (by decide))
  refine cpA F fz_X11_167 (fun _ => hnm) dX11_init_169 obm20 rfl rfl ?_
  obtain ⟨d20, ed20⟩ : ∃ z, z = st d19 o 24 (o + 20) := ⟨_, rfl⟩
  refine v_nD ed20 ?_
  refine v_aload_n F dX11_init_172 rfl rfl ?_
  refine v_sipush F dX11_init_173 rfl ⟨by decide, by decide⟩ ?_
  refine v_newa (t := 101) (ty := .int) F dX11_init_176 rfl rfl ⟨by decide, by decide⟩ rfl (fun _ _ => rfl) rfl q348 ⟨by decide, by decide⟩ (by decide) (fun _ _ => trivial) (Nat.le_of_ble_eq_true rfl) (ks' := 16768) rfl (Nat.le_of_ble_eq_true rfl) hm20 ?_
  obtain ⟨m21, em21⟩ : ∃ z, z = aln m20 ((101 : Nat) : Int) 4002 := ⟨_, rfl⟩
  refine v_nM em21 ?_
  have hm21 : m21 0 0 = (o + 22) := by rw [em21]; exact aln_nxo hm20 ho (by decide) rfl
  have obm21 : OB m21 o 11 := by rw [em21]; exact aln_ob obm20 (o_lt0 hm20 (by decide))
  refine cpA F fz_X11_161 (fun _ => hnm) dX11_init_178 obm21 rfl rfl ?_
  obtain ⟨d21, ed21⟩ : ∃ z, z = st d20 o 25 (o + 21) := ⟨_, rfl⟩
  refine v_nD ed21 ?_
  refine v_aload_n F dX11_init_181 rfl rfl ?_
  refine v_sipush F dX11_init_182 rfl ⟨by decide, by decide⟩ ?_
  refine v_newa (t := 101) (ty := .int) F dX11_init_185 rfl rfl ⟨by decide, by decide⟩ rfl (fun _ _ => rfl) rfl q348 ⟨by decide, by decide⟩ (by decide) (fun _ _ => trivial) (Nat.le_of_ble_eq_true rfl) (ks' := 20770) rfl (Nat.le_of_ble_eq_true rfl) hm21 ?_
  obtain ⟨m22, em22⟩ : ∃ z, z = aln m21 ((101 : Nat) : Int) 4002 := ⟨_, rfl⟩
  refine v_nM em22 ?_
  have hm22 : m22 0 0 = (o + 23) := by rw [em22]; exact aln_nxo hm21 ho (by decide) rfl
  have obm22 : OB m22 o 11 := by rw [em22]; exact aln_ob obm21 (o_lt0 hm21 (by decide))
  refine cpA F fz_X11_185 (fun _ => hnm) dX11_init_187 obm22 rfl rfl ?_
  obtain ⟨d22, ed22⟩ : ∃ z, z = st d21 o 26 (o + 22) := ⟨_, rfl⟩
  refine v_nD ed22 ?_
  refine v_aload_n F dX11_init_190 rfl rfl ?_
  refine v_sipush F dX11_init_191 rfl ⟨by decide, by decide⟩ ?_
  refine v_newa (t := 101) (ty := .int) F dX11_init_194 rfl rfl ⟨by decide, by decide⟩ rfl (fun _ _ => rfl) rfl q348 ⟨by decide, by decide⟩ (by decide) (fun _ _ => trivial) (Nat.le_of_ble_eq_true rfl) (ks' := 24772) rfl (Nat.le_of_ble_eq_true rfl) hm22 ?_
  obtain ⟨m23, em23⟩ : ∃ z, z = aln m22 ((101 : Nat) : Int) 4002 := ⟨_, rfl⟩
  refine v_nM em23 ?_
  have hm23 : m23 0 0 = (o + 24) := by rw [em23]; exact aln_nxo hm22 ho (by decide) rfl
  have obm23 : OB m23 o 11 := by rw [em23]; exact aln_ob obm22 (o_lt0 hm22 (by decide))
  refine cpA F fz_X11_182 (fun _ => hnm) dX11_init_196 obm23 rfl rfl ?_
  obtain ⟨d23, ed23⟩ : ∃ z, z = st d22 o 27 (o + 23) := ⟨_, rfl⟩
  refine v_nD ed23 ?_
  refine v_aload_n F dX11_init_199 rfl rfl ?_
  refine v_sipush F dX11_init_200 rfl ⟨by decide, by decide⟩ ?_
  refine v_newa (t := 101) (ty := .int) F dX11_init_203 rfl rfl ⟨by decide, by decide⟩ rfl (fun _ _ => rfl) rfl q348 ⟨by decide, by decide⟩ (by decide) (fun _ _ => trivial) (Nat.le_of_ble_eq_true rfl) (ks' := 40780) rfl (Nat.le_of_ble_eq_true rfl) hm23 ?_
  obtain ⟨m24, em24⟩ : ∃ z, z = aln m23 ((101 : Nat) : Int) 16008 := ⟨_, rfl⟩
  refine v_nM em24 ?_
  have hm24 : m24 0 0 = (o + 25) := by rw [em24]; exact aln_nxo hm23 ho (by decide) rfl
  have obm24 : OB m24 o 11 := by rw [em24]; exact aln_ob obm23 (o_lt0 hm23 (by decide))
  refine cpA F fz_X11_287 (fun _ => hnm) dX11_init_205 obm24 rfl rfl ?_
  obtain ⟨d24, ed24⟩ : ∃ z, z = st d23 o 36 (o + 24) := ⟨_, rfl⟩
  refine v_nD ed24 ?_
  refine v_aload_n F dX11_init_208 rfl rfl ?_
  refine v_iconst F dX11_init_209 ⟨by decide, by decide⟩ ?_
  refine v_newa (t := 101) (ty := .int) F dX11_init_210 rfl rfl ⟨by decide, by decide⟩ rfl (fun _ _ => rfl) rfl q348 ⟨by decide, by decide⟩ (by decide) (fun _ _ => trivial) (Nat.le_of_ble_eq_true rfl) (ks' := 40784) rfl (Nat.le_of_ble_eq_true rfl) hm24 ?_
  obtain ⟨m25, em25⟩ : ∃ z, z = aln m24 ((101 : Nat) : Int) 4 := ⟨_, rfl⟩
  refine v_nM em25 ?_
  have hm25 : m25 0 0 = (o + 26) := by rw [em25]; exact aln_nxo hm24 ho (by decide) rfl
  have obm25 : OB m25 o 11 := by rw [em25]; exact aln_ob obm24 (o_lt0 hm24 (by decide))
  refine cpA F fz_X11_290 (fun _ => hnm) dX11_init_212 obm25 rfl rfl ?_
  obtain ⟨d25, ed25⟩ : ∃ z, z = st d24 o 37 (o + 25) := ⟨_, rfl⟩
  refine v_nD ed25 ?_
  refine v_aload_n F dX11_init_215 rfl rfl ?_
  refine v_iconst F dX11_init_216 ⟨by decide, by decide⟩ ?_
  refine v_newa (t := 101) (ty := .int) F dX11_init_217 rfl rfl ⟨by decide, by decide⟩ rfl (fun _ _ => rfl) rfl q348 ⟨by decide, by decide⟩ (by decide) (fun _ _ => trivial) (Nat.le_of_ble_eq_true rfl) (ks' := 40786) rfl (Nat.le_of_ble_eq_true rfl) hm25 ?_
  obtain ⟨m26, em26⟩ : ∃ z, z = aln m25 ((101 : Nat) : Int) 2 := ⟨_, rfl⟩
  refine v_nM em26 ?_
  have hm26 : m26 0 0 = (o + 27) := by rw [em26]; exact aln_nxo hm25 ho (by decide) rfl
  have obm26 : OB m26 o 11 := by rw [em26]; exact aln_ob obm25 (o_lt0 hm25 (by decide))
  refine cpA F fz_X11_310 (fun _ => hnm) dX11_init_219 obm26 rfl rfl ?_
  obtain ⟨d26, ed26⟩ : ∃ z, z = st d25 o 38 (o + 26) := ⟨_, rfl⟩
  refine v_nD ed26 ?_
  refine v_aload_n F dX11_init_222 rfl rfl ?_
  refine v_bipush F dX11_init_223 rfl ⟨by decide, by decide⟩ ?_
  refine v_newa (t := 101) (ty := .int) F dX11_init_225 rfl rfl ⟨by decide, by decide⟩ rfl (fun _ _ => rfl) rfl q348 ⟨by decide, by decide⟩ (by decide) (fun _ _ => trivial) (Nat.le_of_ble_eq_true rfl) (ks' := 40868) rfl (Nat.le_of_ble_eq_true rfl) hm26 ?_
  obtain ⟨m27, em27⟩ : ∃ z, z = aln m26 ((101 : Nat) : Int) 82 := ⟨_, rfl⟩
  refine v_nM em27 ?_
  have hm27 : m27 0 0 = (o + 28) := by rw [em27]; exact aln_nxo hm26 ho (by decide) rfl
  have obm27 : OB m27 o 11 := by rw [em27]; exact aln_ob obm26 (o_lt0 hm26 (by decide))
  refine cpA F fz_X11_313 (fun _ => hnm) dX11_init_227 obm27 rfl rfl ?_
  obtain ⟨d27, ed27⟩ : ∃ z, z = st d26 o 39 (o + 27) := ⟨_, rfl⟩
  refine v_nD ed27 ?_
  refine v_aload_n F dX11_init_230 rfl rfl ?_
  refine v_bipush F dX11_init_231 rfl ⟨by decide, by decide⟩ ?_
  refine v_newa (t := 101) (ty := .int) F dX11_init_233 rfl rfl ⟨by decide, by decide⟩ rfl (fun _ _ => rfl) rfl q348 ⟨by decide, by decide⟩ (by decide) (fun _ _ => trivial) (Nat.le_of_ble_eq_true rfl) (ks' := 40950) rfl (Nat.le_of_ble_eq_true rfl) hm27 ?_
  obtain ⟨m28, em28⟩ : ∃ z, z = aln m27 ((101 : Nat) : Int) 82 := ⟨_, rfl⟩
  refine v_nM em28 ?_
  have hm28 : m28 0 0 = (o + 29) := by rw [em28]; exact aln_nxo hm27 ho (by decide) rfl
  have obm28 : OB m28 o 11 := by rw [em28]; exact aln_ob obm27 (o_lt0 hm27 (by decide))
  refine cpA F fz_X11_316 (fun _ => hnm) dX11_init_235 obm28 rfl rfl ?_
  obtain ⟨d28, ed28⟩ : ∃ z, z = st d27 o 40 (o + 28) := ⟨_, rfl⟩
  refine v_nD ed28 ?_
  refine v_aload_n F dX11_init_238 rfl rfl ?_
  refine v_bipush F dX11_init_239 rfl ⟨by decide, by decide⟩ ?_
  refine v_newa (t := 101) (ty := .int) F dX11_init_241 rfl rfl ⟨by decide, by decide⟩ rfl (fun _ _ => rfl) rfl q348 ⟨by decide, by decide⟩ (by decide) (fun _ _ => trivial) (Nat.le_of_ble_eq_true rfl) (ks' := 41032) rfl (Nat.le_of_ble_eq_true rfl) hm28 ?_
  obtain ⟨m29, em29⟩ : ∃ z, z = aln m28 ((101 : Nat) : Int) 82 := ⟨_, rfl⟩
  refine v_nM em29 ?_
  have hm29 : m29 0 0 = (o + 30) := by rw [em29]; exact aln_nxo hm28 ho (by decide) rfl
  have obm29 : OB m29 o 11 := by rw [em29]; exact aln_ob obm28 (o_lt0 hm28 (by decide))
  refine cpA F fz_X11_319 (fun _ => hnm) dX11_init_243 obm29 rfl rfl ?_
  obtain ⟨d29, ed29⟩ : ∃ z, z = st d28 o 41 (o + 29) := ⟨_, rfl⟩
  refine v_nD ed29 ?_
  refine v_aload_n F dX11_init_246 rfl rfl ?_
  refine v_bipush F dX11_init_247 rfl ⟨by decide, by decide⟩ ?_
  refine v_newa (t := 101) (ty := .int) F dX11_init_249 rfl rfl ⟨by decide, by decide⟩ rfl (fun _ _ => rfl) rfl q348 ⟨by decide, by decide⟩ (by decide) (fun _ _ => trivial) (Nat.le_of_ble_eq_true rfl) (ks' := 41114) rfl (Nat.le_of_ble_eq_true rfl) hm29 ?_
  obtain ⟨m30, em30⟩ : ∃ z, z = aln m29 ((101 : Nat) : Int) 82 := ⟨_, rfl⟩
  refine v_nM em30 ?_
  have hm30 : m30 0 0 = (o + 31) := by rw [em30]; exact aln_nxo hm29 ho (by decide) rfl
  have obm30 : OB m30 o 11 := by rw [em30]; exact aln_ob obm29 (o_lt0 hm29 (by decide))
  refine cpA F fz_X11_322 (fun _ => hnm) dX11_init_251 obm30 rfl rfl ?_
  obtain ⟨d30, ed30⟩ : ∃ z, z = st d29 o 42 (o + 30) := ⟨_, rfl⟩
  refine v_nD ed30 ?_
  refine v_aload_n F dX11_init_254 rfl rfl ?_
  refine v_bipush F dX11_init_255 rfl ⟨by decide, by decide⟩ ?_
  refine v_newa (t := 101) (ty := .int) F dX11_init_257 rfl rfl ⟨by decide, by decide⟩ rfl (fun _ _ => rfl) rfl q348 ⟨by decide, by decide⟩ (by decide) (fun _ _ => trivial) (Nat.le_of_ble_eq_true rfl) (ks' := 41134) rfl (Nat.le_of_ble_eq_true rfl) hm30 ?_
  obtain ⟨m31, em31⟩ : ∃ z, z = aln m30 ((101 : Nat) : Int) 20 := ⟨_, rfl⟩
  refine v_nM em31 ?_
  have hm31 : m31 0 0 = (o + 32) := by rw [em31]; exact aln_nxo hm30 ho (by decide) rfl
  have obm31 : OB m31 o 11 := by rw [em31]; exact aln_ob obm30 (o_lt0 hm30 (by decide))
  refine cpA F fz_X11_281 (fun _ => hnm) dX11_init_259 obm31 rfl rfl ?_
  obtain ⟨d31, ed31⟩ : ∃ z, z = st d30 o 43 (o + 31) := ⟨_, rfl⟩
  refine v_nD ed31 ?_
  refine v_aload_n F dX11_init_262 rfl rfl ?_
  refine v_bipush F dX11_init_263 rfl ⟨by decide, by decide⟩ ?_
  refine v_newa (t := 101) (ty := .int) F dX11_init_265 rfl rfl ⟨by decide, by decide⟩ rfl (fun _ _ => rfl) rfl q348 ⟨by decide, by decide⟩ (by decide) (fun _ _ => trivial) (Nat.le_of_ble_eq_true rfl) (ks' := 41230) rfl (Nat.le_of_ble_eq_true rfl) hm31 ?_
  obtain ⟨m32, em32⟩ : ∃ z, z = aln m31 ((101 : Nat) : Int) 96 := ⟨_, rfl⟩
  refine v_nM em32 ?_
  have hm32 : m32 0 0 = (o + 33) := by rw [em32]; exact aln_nxo hm31 ho (by decide) rfl
  have obm32 : OB m32 o 11 := by rw [em32]; exact aln_ob obm31 (o_lt0 hm31 (by decide))
  refine cpA F fz_X11_284 (fun _ => hnm) dX11_init_267 obm32 rfl rfl ?_
  obtain ⟨d32, ed32⟩ : ∃ z, z = st d31 o 44 (o + 32) := ⟨_, rfl⟩
  refine v_nD ed32 ?_
  refine v_aload_n F dX11_init_270 rfl rfl ?_
  refine v_iconst F dX11_init_271 ⟨by decide, by decide⟩ ?_
  refine cpI F fz_X11_472 (fun h => by cases h) dX11_init_272 obm32 rfl rfl ?_
  obtain ⟨d33, ed33⟩ : ∃ z, z = st d32 o 48 (-1) := ⟨_, rfl⟩
  refine v_nD ed33 ?_
  refine v_aload_n F dX11_init_275 rfl rfl ?_
  refine v_bipush F dX11_init_276 rfl ⟨by decide, by decide⟩ ?_
  refine v_newa (t := 103) (ty := .boolean) F dX11_init_278 rfl rfl ⟨by decide, by decide⟩ rfl (fun _ _ => rfl) rfl q533 ⟨by decide, by decide⟩ (by decide) (fun _ _ => trivial) (Nat.le_of_ble_eq_true rfl) (ks' := 41262) rfl (Nat.le_of_ble_eq_true rfl) hm32 ?_
  obtain ⟨m33, em33⟩ : ∃ z, z = aln m32 ((103 : Nat) : Int) 32 := ⟨_, rfl⟩
  refine v_nM em33 ?_
  have hm33 : m33 0 0 = (o + 34) := by rw [em33]; exact aln_nxo hm32 ho (by decide) rfl
  have obm33 : OB m33 o 11 := by rw [em33]; exact aln_ob obm32 (o_lt0 hm32 (by decide))
  refine cpA F fz_X11_497 (fun _ => hnm) dX11_init_280 obm33 rfl rfl ?_
  obtain ⟨d34, ed34⟩ : ∃ z, z = st d33 o 51 (o + 33) := ⟨_, rfl⟩
  refine v_nD ed34 ?_
  refine v_aload_n F dX11_init_283 rfl rfl ?_
  refine v_bipush F dX11_init_284 rfl ⟨by decide, by decide⟩ ?_
  refine v_newa (t := 103) (ty := .boolean) F dX11_init_286 rfl rfl ⟨by decide, by decide⟩ rfl (fun _ _ => rfl) rfl q533 ⟨by decide, by decide⟩ (by decide) (fun _ _ => trivial) (Nat.le_of_ble_eq_true rfl) (ks' := 41294) rfl (Nat.le_of_ble_eq_true rfl) hm33 ?_
  obtain ⟨m34, em34⟩ : ∃ z, z = aln m33 ((103 : Nat) : Int) 32 := ⟨_, rfl⟩
  refine v_nM em34 ?_
  have hm34 : m34 0 0 = (o + 35) := by rw [em34]; exact aln_nxo hm33 ho (by decide) rfl
  have obm34 : OB m34 o 11 := by rw [em34]; exact aln_ob obm33 (o_lt0 hm33 (by decide))
  refine cpA F fz_X11_501 (fun _ => hnm) dX11_init_288 obm34 rfl rfl ?_
  obtain ⟨d35, ed35⟩ : ∃ z, z = st d34 o 52 (o + 34) := ⟨_, rfl⟩
  refine v_nD ed35 ?_
  refine v_aload_n F dX11_init_291 rfl rfl ?_
  refine v_bipush F dX11_init_292 rfl ⟨by decide, by decide⟩ ?_
  refine v_newa (t := 103) (ty := .boolean) F dX11_init_294 rfl rfl ⟨by decide, by decide⟩ rfl (fun _ _ => rfl) rfl q533 ⟨by decide, by decide⟩ (by decide) (fun _ _ => trivial) (Nat.le_of_ble_eq_true rfl) (ks' := 41326) rfl (Nat.le_of_ble_eq_true rfl) hm34 ?_
  obtain ⟨m35, em35⟩ : ∃ z, z = aln m34 ((103 : Nat) : Int) 32 := ⟨_, rfl⟩
  refine v_nM em35 ?_
  have hm35 : m35 0 0 = (o + 36) := by rw [em35]; exact aln_nxo hm34 ho (by decide) rfl
  have obm35 : OB m35 o 11 := by rw [em35]; exact aln_ob obm34 (o_lt0 hm34 (by decide))
  refine cpA F fz_X11_504 (fun _ => hnm) dX11_init_296 obm35 rfl rfl ?_
  obtain ⟨d36, ed36⟩ : ∃ z, z = st d35 o 53 (o + 35) := ⟨_, rfl⟩
  refine v_nD ed36 ?_
  refine v_aload_n F dX11_init_299 rfl rfl ?_
  refine v_bipush F dX11_init_300 rfl ⟨by decide, by decide⟩ ?_
  refine v_newa (t := 103) (ty := .boolean) F dX11_init_302 rfl rfl ⟨by decide, by decide⟩ rfl (fun _ _ => rfl) rfl q533 ⟨by decide, by decide⟩ (by decide) (fun _ _ => trivial) (Nat.le_of_ble_eq_true rfl) (ks' := 41358) rfl (Nat.le_of_ble_eq_true rfl) hm35 ?_
  obtain ⟨m36, em36⟩ : ∃ z, z = aln m35 ((103 : Nat) : Int) 32 := ⟨_, rfl⟩
  refine v_nM em36 ?_
  have hm36 : m36 0 0 = (o + 37) := by rw [em36]; exact aln_nxo hm35 ho (by decide) rfl
  have obm36 : OB m36 o 11 := by rw [em36]; exact aln_ob obm35 (o_lt0 hm35 (by decide))
  refine cpA F fz_X11_507 (fun _ => hnm) dX11_init_304 obm36 rfl rfl ?_
  obtain ⟨d37, ed37⟩ : ∃ z, z = st d36 o 54 (o + 36) := ⟨_, rfl⟩
  refine v_nD ed37 ?_
  refine v_aload_n F dX11_init_307 rfl rfl ?_
  refine v_bipush F dX11_init_308 rfl ⟨by decide, by decide⟩ ?_
  refine v_newa (t := 101) (ty := .int) F dX11_init_310 rfl rfl ⟨by decide, by decide⟩ rfl (fun _ _ => rfl) rfl q348 ⟨by decide, by decide⟩ (by decide) (fun _ _ => trivial) (Nat.le_of_ble_eq_true rfl) (ks' := 41412) rfl (Nat.le_of_ble_eq_true rfl) hm36 ?_
  obtain ⟨m37, em37⟩ : ∃ z, z = aln m36 ((101 : Nat) : Int) 54 := ⟨_, rfl⟩
  refine v_nM em37 ?_
  have hm37 : m37 0 0 = (o + 38) := by rw [em37]; exact aln_nxo hm36 ho (by decide) rfl
  have obm37 : OB m37 o 11 := by rw [em37]; exact aln_ob obm36 (o_lt0 hm36 (by decide))
  refine cpA F fz_X11_575 (fun _ => hnm) dX11_init_312 obm37 rfl rfl ?_
  obtain ⟨d38, ed38⟩ : ∃ z, z = st d37 o 57 (o + 37) := ⟨_, rfl⟩
  refine v_nD ed38 ?_
  refine v_aload_n F dX11_init_315 rfl rfl ?_
  refine v_bipush F dX11_init_316 rfl ⟨by decide, by decide⟩ ?_
  refine v_newa (t := 101) (ty := .int) F dX11_init_318 rfl rfl ⟨by decide, by decide⟩ rfl (fun _ _ => rfl) rfl q348 ⟨by decide, by decide⟩ (by decide) (fun _ _ => trivial) (Nat.le_of_ble_eq_true rfl) (ks' := 41466) rfl (Nat.le_of_ble_eq_true rfl) hm37 ?_
  obtain ⟨m38, em38⟩ : ∃ z, z = aln m37 ((101 : Nat) : Int) 54 := ⟨_, rfl⟩
  refine v_nM em38 ?_
  have hm38 : m38 0 0 = (o + 39) := by rw [em38]; exact aln_nxo hm37 ho (by decide) rfl
  have obm38 : OB m38 o 11 := by rw [em38]; exact aln_ob obm37 (o_lt0 hm37 (by decide))
  refine cpA F fz_X11_578 (fun _ => hnm) dX11_init_320 obm38 rfl rfl ?_
  obtain ⟨d39, ed39⟩ : ∃ z, z = st d38 o 58 (o + 38) := ⟨_, rfl⟩
  refine v_nD ed39 ?_
  refine v_aload_n F dX11_init_323 rfl rfl ?_
  refine v_bipush F dX11_init_324 rfl ⟨by decide, by decide⟩ ?_
  refine v_newa (t := 101) (ty := .int) F dX11_init_326 rfl rfl ⟨by decide, by decide⟩ rfl (fun _ _ => rfl) rfl q348 ⟨by decide, by decide⟩ (by decide) (fun _ _ => trivial) (Nat.le_of_ble_eq_true rfl) (ks' := 41520) rfl (Nat.le_of_ble_eq_true rfl) hm38 ?_
  obtain ⟨m39, em39⟩ : ∃ z, z = aln m38 ((101 : Nat) : Int) 54 := ⟨_, rfl⟩
  refine v_nM em39 ?_
  have hm39 : m39 0 0 = (o + 40) := by rw [em39]; exact aln_nxo hm38 ho (by decide) rfl
  have obm39 : OB m39 o 11 := by rw [em39]; exact aln_ob obm38 (o_lt0 hm38 (by decide))
  refine cpA F fz_X11_584 (fun _ => hnm) dX11_init_328 obm39 rfl rfl ?_
  obtain ⟨d40, ed40⟩ : ∃ z, z = st d39 o 59 (o + 39) := ⟨_, rfl⟩
  refine v_nD ed40 ?_
  refine v_aload_n F dX11_init_331 rfl rfl ?_
  refine v_bipush F dX11_init_332 rfl ⟨by decide, by decide⟩ ?_
  refine v_newa (t := 101) (ty := .int) F dX11_init_334 rfl rfl ⟨by decide, by decide⟩ rfl (fun _ _ => rfl) rfl q348 ⟨by decide, by decide⟩ (by decide) (fun _ _ => trivial) (Nat.le_of_ble_eq_true rfl) (ks' := 41574) rfl (Nat.le_of_ble_eq_true rfl) hm39 ?_
  obtain ⟨m40, em40⟩ : ∃ z, z = aln m39 ((101 : Nat) : Int) 54 := ⟨_, rfl⟩
  refine v_nM em40 ?_
  have hm40 : m40 0 0 = (o + 41) := by rw [em40]; exact aln_nxo hm39 ho (by decide) rfl
  have obm40 : OB m40 o 11 := by rw [em40]; exact aln_ob obm39 (o_lt0 hm39 (by decide))
  refine cpA F fz_X11_587 (fun _ => hnm) dX11_init_336 obm40 rfl rfl ?_
  obtain ⟨d41, ed41⟩ : ∃ z, z = st d40 o 60 (o + 40) := ⟨_, rfl⟩
  refine v_nD ed41 ?_
  refine v_aload_n F dX11_init_339 rfl rfl ?_
  refine v_bipush F dX11_init_340 rfl ⟨by decide, by decide⟩ ?_
  refine v_newa (t := 101) (ty := .int) F dX11_init_342 rfl rfl ⟨by decide, by decide⟩ rfl (fun _ _ => rfl) rfl q348 ⟨by decide, by decide⟩ (by decide) (fun _ _ => trivial) (Nat.le_of_ble_eq_true rfl) (ks' := 41628) rfl (Nat.le_of_ble_eq_true rfl) hm40 ?_
  obtain ⟨m41, em41⟩ : ∃ z, z = aln m40 ((101 : Nat) : Int) 54 := ⟨_, rfl⟩
  refine v_nM em41 ?_
  have hm41 : m41 0 0 = (o + 42) := by rw [em41]; exact aln_nxo hm40 ho (by decide) rfl
  have obm41 : OB m41 o 11 := by rw [em41]; exact aln_ob obm40 (o_lt0 hm40 (by decide))
  refine cpA F fz_X11_590 (fun _ => hnm) dX11_init_344 obm41 rfl rfl ?_
  obtain ⟨d42, ed42⟩ : ∃ z, z = st d41 o 61 (o + 41) := ⟨_, rfl⟩
  refine v_nD ed42 ?_
  refine v_aload_n F dX11_init_347 rfl rfl ?_
  refine v_bipush F dX11_init_348 rfl ⟨by decide, by decide⟩ ?_
  refine v_newa (t := 101) (ty := .int) F dX11_init_350 rfl rfl ⟨by decide, by decide⟩ rfl (fun _ _ => rfl) rfl q348 ⟨by decide, by decide⟩ (by decide) (fun _ _ => trivial) (Nat.le_of_ble_eq_true rfl) (ks' := 41682) rfl (Nat.le_of_ble_eq_true rfl) hm41 ?_
  obtain ⟨m42, em42⟩ : ∃ z, z = aln m41 ((101 : Nat) : Int) 54 := ⟨_, rfl⟩
  refine v_nM em42 ?_
  have hm42 : m42 0 0 = (o + 43) := by rw [em42]; exact aln_nxo hm41 ho (by decide) rfl
  have obm42 : OB m42 o 11 := by rw [em42]; exact aln_ob obm41 (o_lt0 hm41 (by decide))
  refine cpA F fz_X11_593 (fun _ => hnm) dX11_init_352 obm42 rfl rfl ?_
  obtain ⟨d43, ed43⟩ : ∃ z, z = st d42 o 62 (o + 42) := ⟨_, rfl⟩
  refine v_nD ed43 ?_
  refine v_aload_n F dX11_init_355 rfl rfl ?_
  refine v_sipush F dX11_init_356 rfl ⟨by decide, by decide⟩ ?_
  refine v_newa (t := 103) (ty := .boolean) F dX11_init_359 rfl rfl ⟨by decide, by decide⟩ rfl (fun _ _ => rfl) rfl q533 ⟨by decide, by decide⟩ (by decide) (fun _ _ => trivial) (Nat.le_of_ble_eq_true rfl) (ks' := 44922) rfl (Nat.le_of_ble_eq_true rfl) hm42 ?_
  obtain ⟨m43, em43⟩ : ∃ z, z = aln m42 ((103 : Nat) : Int) 3240 := ⟨_, rfl⟩
  refine v_nM em43 ?_
  have hm43 : m43 0 0 = (o + 44) := by rw [em43]; exact aln_nxo hm42 ho (by decide) rfl
  have obm43 : OB m43 o 11 := by rw [em43]; exact aln_ob obm42 (o_lt0 hm42 (by decide))
  refine cpA F fz_X11_596 (fun _ => hnm) dX11_init_361 obm43 rfl rfl ?_
  obtain ⟨d44, ed44⟩ : ∃ z, z = st d43 o 63 (o + 43) := ⟨_, rfl⟩
  refine v_nD ed44 ?_
  refine v_aload_n F dX11_init_364 rfl rfl ?_
  refine v_bipush F dX11_init_365 rfl ⟨by decide, by decide⟩ ?_
  refine v_newa (t := 101) (ty := .int) F dX11_init_367 rfl rfl ⟨by decide, by decide⟩ rfl (fun _ _ => rfl) rfl q348 ⟨by decide, by decide⟩ (by decide) (fun _ _ => trivial) (Nat.le_of_ble_eq_true rfl) (ks' := 44928) rfl (Nat.le_of_ble_eq_true rfl) hm43 ?_
  obtain ⟨m44, em44⟩ : ∃ z, z = aln m43 ((101 : Nat) : Int) 6 := ⟨_, rfl⟩
  refine v_nM em44 ?_
  have hm44 : m44 0 0 = (o + 45) := by rw [em44]; exact aln_nxo hm43 ho (by decide) rfl
  have obm44 : OB m44 o 11 := by rw [em44]; exact aln_ob obm43 (o_lt0 hm43 (by decide))
  refine cpA F fz_X11_488 (fun _ => hnm) dX11_init_369 obm44 rfl rfl ?_
  obtain ⟨d45, ed45⟩ : ∃ z, z = st d44 o 65 (o + 44) := ⟨_, rfl⟩
  refine v_nD ed45 ?_
  refine v_aload_n F dX11_init_372 rfl rfl ?_
  refine v_bipush F dX11_init_373 rfl ⟨by decide, by decide⟩ ?_
  refine v_newa (t := 101) (ty := .int) F dX11_init_375 rfl rfl ⟨by decide, by decide⟩ rfl (fun _ _ => rfl) rfl q348 ⟨by decide, by decide⟩ (by decide) (fun _ _ => trivial) (Nat.le_of_ble_eq_true rfl) (ks' := 44982) rfl (Nat.le_of_ble_eq_true rfl) hm44 ?_
  obtain ⟨m45, em45⟩ : ∃ z, z = aln m44 ((101 : Nat) : Int) 54 := ⟨_, rfl⟩
  refine v_nM em45 ?_
  have hm45 : m45 0 0 = (o + 46) := by rw [em45]; exact aln_nxo hm44 ho (by decide) rfl
  have obm45 : OB m45 o 11 := by rw [em45]; exact aln_ob obm44 (o_lt0 hm44 (by decide))
  refine cpA F fz_X11_608 (fun _ => hnm) dX11_init_377 obm45 rfl rfl ?_
  obtain ⟨d46, ed46⟩ : ∃ z, z = st d45 o 66 (o + 45) := ⟨_, rfl⟩
  refine v_nD ed46 ?_
  refine v_aload_n F dX11_init_380 rfl rfl ?_
  refine v_bipush F dX11_init_381 rfl ⟨by decide, by decide⟩ ?_
  refine v_newa (t := 103) (ty := .boolean) F dX11_init_383 rfl rfl ⟨by decide, by decide⟩ rfl (fun _ _ => rfl) rfl q533 ⟨by decide, by decide⟩ (by decide) (fun _ _ => trivial) (Nat.le_of_ble_eq_true rfl) (ks' := 45036) rfl (Nat.le_of_ble_eq_true rfl) hm45 ?_
  obtain ⟨m46, em46⟩ : ∃ z, z = aln m45 ((103 : Nat) : Int) 54 := ⟨_, rfl⟩
  refine v_nM em46 ?_
  have hm46 : m46 0 0 = (o + 47) := by rw [em46]; exact aln_nxo hm45 ho (by decide) rfl
  have obm46 : OB m46 o 11 := by rw [em46]; exact aln_ob obm45 (o_lt0 hm45 (by decide))
  refine cpA F fz_X11_567 (fun _ => hnm) dX11_init_385 obm46 rfl rfl ?_
  obtain ⟨d47, ed47⟩ : ∃ z, z = st d46 o 67 (o + 46) := ⟨_, rfl⟩
  refine v_nD ed47 ?_
  refine v_aload_n F dX11_init_388 rfl rfl ?_
  refine v_bipush F dX11_init_389 rfl ⟨by decide, by decide⟩ ?_
  refine v_newa (t := 101) (ty := .int) F dX11_init_391 rfl rfl ⟨by decide, by decide⟩ rfl (fun _ _ => rfl) rfl q348 ⟨by decide, by decide⟩ (by decide) (fun _ _ => trivial) (Nat.le_of_ble_eq_true rfl) (ks' := 45090) rfl (Nat.le_of_ble_eq_true rfl) hm46 ?_
  obtain ⟨m47, em47⟩ : ∃ z, z = aln m46 ((101 : Nat) : Int) 54 := ⟨_, rfl⟩
  refine v_nM em47 ?_
  have hm47 : m47 0 0 = (o + 48) := by rw [em47]; exact aln_nxo hm46 ho (by decide) rfl
  have obm47 : OB m47 o 11 := by rw [em47]; exact aln_ob obm46 (o_lt0 hm46 (by decide))
  refine cpA F fz_X11_611 (fun _ => hnm) dX11_init_393 obm47 rfl rfl ?_
  obtain ⟨d48, ed48⟩ : ∃ z, z = st d47 o 68 (o + 47) := ⟨_, rfl⟩
  refine v_nD ed48 ?_
  refine v_aload_n F dX11_init_396 rfl rfl ?_
  refine v_bipush F dX11_init_397 rfl ⟨by decide, by decide⟩ ?_
  refine v_newa (t := 101) (ty := .int) F dX11_init_399 rfl rfl ⟨by decide, by decide⟩ rfl (fun _ _ => rfl) rfl q348 ⟨by decide, by decide⟩ (by decide) (fun _ _ => trivial) (Nat.le_of_ble_eq_true rfl) (ks' := 45144) rfl (Nat.le_of_ble_eq_true rfl) hm47 ?_
  obtain ⟨m48, em48⟩ : ∃ z, z = aln m47 ((101 : Nat) : Int) 54 := ⟨_, rfl⟩
  refine v_nM em48 ?_
  have hm48 : m48 0 0 = (o + 49) := by rw [em48]; exact aln_nxo hm47 ho (by decide) rfl
  have obm48 : OB m48 o 11 := by rw [em48]; exact aln_ob obm47 (o_lt0 hm47 (by decide))
  refine cpA F fz_X11_614 (fun _ => hnm) dX11_init_401 obm48 rfl rfl ?_
  obtain ⟨d49, ed49⟩ : ∃ z, z = st d48 o 69 (o + 48) := ⟨_, rfl⟩
  refine v_nD ed49 ?_
  refine v_aload_n F dX11_init_404 rfl rfl ?_
  refine v_bipush F dX11_init_405 rfl ⟨by decide, by decide⟩ ?_
  refine v_newa (t := 103) (ty := .boolean) F dX11_init_407 rfl rfl ⟨by decide, by decide⟩ rfl (fun _ _ => rfl) rfl q533 ⟨by decide, by decide⟩ (by decide) (fun _ _ => trivial) (Nat.le_of_ble_eq_true rfl) (ks' := 45150) rfl (Nat.le_of_ble_eq_true rfl) hm48 ?_
  obtain ⟨m49, em49⟩ : ∃ z, z = aln m48 ((103 : Nat) : Int) 6 := ⟨_, rfl⟩
  refine v_nM em49 ?_
  have hm49 : m49 0 0 = (o + 50) := by rw [em49]; exact aln_nxo hm48 ho (by decide) rfl
  have obm49 : OB m49 o 11 := by rw [em49]; exact aln_ob obm48 (o_lt0 hm48 (by decide))
  refine cpA F fz_X11_546 (fun _ => hnm) dX11_init_409 obm49 rfl rfl ?_
  obtain ⟨d50, ed50⟩ : ∃ z, z = st d49 o 70 (o + 49) := ⟨_, rfl⟩
  refine v_nD ed50 ?_
  refine v_aload_n F dX11_init_412 rfl rfl ?_
  refine v_bipush F dX11_init_413 rfl ⟨by decide, by decide⟩ ?_
  refine v_newa (t := 101) (ty := .int) F dX11_init_415 rfl rfl ⟨by decide, by decide⟩ rfl (fun _ _ => rfl) rfl q348 ⟨by decide, by decide⟩ (by decide) (fun _ _ => trivial) (Nat.le_of_ble_eq_true rfl) (ks' := 45210) rfl (Nat.le_of_ble_eq_true rfl) hm49 ?_
  obtain ⟨m50, em50⟩ : ∃ z, z = aln m49 ((101 : Nat) : Int) 60 := ⟨_, rfl⟩
  refine v_nM em50 ?_
  have hm50 : m50 0 0 = (o + 51) := by rw [em50]; exact aln_nxo hm49 ho (by decide) rfl
  have obm50 : OB m50 o 11 := by rw [em50]; exact aln_ob obm49 (o_lt0 hm49 (by decide))
  refine cpA F fz_X11_599 (fun _ => hnm) dX11_init_417 obm50 rfl rfl ?_
  obtain ⟨d51, ed51⟩ : ∃ z, z = st d50 o 72 (o + 50) := ⟨_, rfl⟩
  refine v_nD ed51 ?_
  refine v_aload_n F dX11_init_420 rfl rfl ?_
  refine v_bipush F dX11_init_421 rfl ⟨by decide, by decide⟩ ?_
  refine v_newa (t := 101) (ty := .int) F dX11_init_423 rfl rfl ⟨by decide, by decide⟩ rfl (fun _ _ => rfl) rfl q348 ⟨by decide, by decide⟩ (by decide) (fun _ _ => trivial) (Nat.le_of_ble_eq_true rfl) (ks' := 45270) rfl (Nat.le_of_ble_eq_true rfl) hm50 ?_
  obtain ⟨m51, em51⟩ : ∃ z, z = aln m50 ((101 : Nat) : Int) 60 := ⟨_, rfl⟩
  refine v_nM em51 ?_
  have hm51 : m51 0 0 = (o + 52) := by rw [em51]; exact aln_nxo hm50 ho (by decide) rfl
  have obm51 : OB m51 o 11 := by rw [em51]; exact aln_ob obm50 (o_lt0 hm50 (by decide))
  refine cpA F fz_X11_602 (fun _ => hnm) dX11_init_425 obm51 rfl rfl ?_
  obtain ⟨d52, ed52⟩ : ∃ z, z = st d51 o 73 (o + 51) := ⟨_, rfl⟩
  refine v_nD ed52 ?_
  refine v_aload_n F dX11_init_428 rfl rfl ?_
  refine v_bipush F dX11_init_429 rfl ⟨by decide, by decide⟩ ?_
  refine v_newa (t := 103) (ty := .boolean) F dX11_init_431 rfl rfl ⟨by decide, by decide⟩ rfl (fun _ _ => rfl) rfl q533 ⟨by decide, by decide⟩ (by decide) (fun _ _ => trivial) (Nat.le_of_ble_eq_true rfl) (ks' := 45330) rfl (Nat.le_of_ble_eq_true rfl) hm51 ?_
  obtain ⟨m52, em52⟩ : ∃ z, z = aln m51 ((103 : Nat) : Int) 60 := ⟨_, rfl⟩
  refine v_nM em52 ?_
  have hm52 : m52 0 0 = (o + 53) := by rw [em52]; exact aln_nxo hm51 ho (by decide) rfl
  have obm52 : OB m52 o 11 := by rw [em52]; exact aln_ob obm51 (o_lt0 hm51 (by decide))
  refine cpA F fz_X11_605 (fun _ => hnm) dX11_init_433 obm52 rfl rfl ?_
  obtain ⟨d53, ed53⟩ : ∃ z, z = st d52 o 74 (o + 52) := ⟨_, rfl⟩
  refine v_nD ed53 ?_
  refine v_aload_n F dX11_init_436 rfl rfl ?_
  refine v_bipush F dX11_init_437 rfl ⟨by decide, by decide⟩ ?_
  refine v_newa (t := 101) (ty := .int) F dX11_init_439 rfl rfl ⟨by decide, by decide⟩ rfl (fun _ _ => rfl) rfl q348 ⟨by decide, by decide⟩ (by decide) (fun _ _ => trivial) (Nat.le_of_ble_eq_true rfl) (ks' := 45390) rfl (Nat.le_of_ble_eq_true rfl) hm52 ?_
  obtain ⟨m53, em53⟩ : ∃ z, z = aln m52 ((101 : Nat) : Int) 60 := ⟨_, rfl⟩
  refine v_nM em53 ?_
  have hm53 : m53 0 0 = (o + 54) := by rw [em53]; exact aln_nxo hm52 ho (by decide) rfl
  have obm53 : OB m53 o 11 := by rw [em53]; exact aln_ob obm52 (o_lt0 hm52 (by decide))
  refine cpA F fz_X11_623 (fun _ => hnm) dX11_init_441 obm53 rfl rfl ?_
  obtain ⟨d54, ed54⟩ : ∃ z, z = st d53 o 76 (o + 53) := ⟨_, rfl⟩
  refine v_nD ed54 ?_
  refine v_aload_n F dX11_init_444 rfl rfl ?_
  refine v_bipush F dX11_init_445 rfl ⟨by decide, by decide⟩ ?_
  refine v_newa (t := 101) (ty := .int) F dX11_init_447 rfl rfl ⟨by decide, by decide⟩ rfl (fun _ _ => rfl) rfl q348 ⟨by decide, by decide⟩ (by decide) (fun _ _ => trivial) (Nat.le_of_ble_eq_true rfl) (ks' := 45450) rfl (Nat.le_of_ble_eq_true rfl) hm53 ?_
  obtain ⟨m54, em54⟩ : ∃ z, z = aln m53 ((101 : Nat) : Int) 60 := ⟨_, rfl⟩
  refine v_nM em54 ?_
  have hm54 : m54 0 0 = (o + 55) := by rw [em54]; exact aln_nxo hm53 ho (by decide) rfl
  have obm54 : OB m54 o 11 := by rw [em54]; exact aln_ob obm53 (o_lt0 hm53 (by decide))
  refine cpA F fz_X11_626 (fun _ => hnm) dX11_init_449 obm54 rfl rfl ?_
  obtain ⟨d55, ed55⟩ : ∃ z, z = st d54 o 77 (o + 54) := ⟨_, rfl⟩
  refine v_nD ed55 ?_
  refine v_aload_n F dX11_init_452 rfl rfl ?_
  refine v_bipush F dX11_init_453 rfl ⟨by decide, by decide⟩ ?_
  refine v_newa (t := 103) (ty := .boolean) F dX11_init_455 rfl rfl ⟨by decide, by decide⟩ rfl (fun _ _ => rfl) rfl q533 ⟨by decide, by decide⟩ (by decide) (fun _ _ => trivial) (Nat.le_of_ble_eq_true rfl) (ks' := 45510) rfl (Nat.le_of_ble_eq_true rfl) hm54 ?_
  obtain ⟨m55, em55⟩ : ∃ z, z = aln m54 ((103 : Nat) : Int) 60 := ⟨_, rfl⟩
  refine v_nM em55 ?_
  have hm55 : m55 0 0 = (o + 56) := by rw [em55]; exact aln_nxo hm54 ho (by decide) rfl
  have obm55 : OB m55 o 11 := by rw [em55]; exact aln_ob obm54 (o_lt0 hm54 (by decide))
  refine cpA F fz_X11_629 (fun _ => hnm) dX11_init_457 obm55 rfl rfl ?_
  obtain ⟨d56, ed56⟩ : ∃ z, z = st d55 o 78 (o + 55) := ⟨_, rfl⟩
  refine v_nD ed56 ?_
  refine v_aload_n F dX11_init_460 rfl rfl ?_
  refine v_bipush F dX11_init_461 rfl ⟨by decide, by decide⟩ ?_
  refine v_newa (t := 101) (ty := .int) F dX11_init_463 rfl rfl ⟨by decide, by decide⟩ rfl (fun _ _ => rfl) rfl q348 ⟨by decide, by decide⟩ (by decide) (fun _ _ => trivial) (Nat.le_of_ble_eq_true rfl) (ks' := 45516) rfl (Nat.le_of_ble_eq_true rfl) hm55 ?_
  obtain ⟨m56, em56⟩ : ∃ z, z = aln m55 ((101 : Nat) : Int) 6 := ⟨_, rfl⟩
  refine v_nM em56 ?_
  have hm56 : m56 0 0 = (o + 57) := by rw [em56]; exact aln_nxo hm55 ho (by decide) rfl
  have obm56 : OB m56 o 11 := by rw [em56]; exact aln_ob obm55 (o_lt0 hm55 (by decide))
  refine cpA F fz_X11_649 (fun _ => hnm) dX11_init_465 obm56 rfl rfl ?_
  obtain ⟨d57, ed57⟩ : ∃ z, z = st d56 o 80 (o + 56) := ⟨_, rfl⟩
  refine v_nD ed57 ?_
  refine v_aload_n F dX11_init_468 rfl rfl ?_
  refine v_bipush F dX11_init_469 rfl ⟨by decide, by decide⟩ ?_
  refine v_newa (t := 103) (ty := .boolean) F dX11_init_471 rfl rfl ⟨by decide, by decide⟩ rfl (fun _ _ => rfl) rfl q533 ⟨by decide, by decide⟩ (by decide) (fun _ _ => trivial) (Nat.le_of_ble_eq_true rfl) (ks' := 45522) rfl (Nat.le_of_ble_eq_true rfl) hm56 ?_
  obtain ⟨m57, em57⟩ : ∃ z, z = aln m56 ((103 : Nat) : Int) 6 := ⟨_, rfl⟩
  refine v_nM em57 ?_
  have hm57 : m57 0 0 = (o + 58) := by rw [em57]; exact aln_nxo hm56 ho (by decide) rfl
  have obm57 : OB m57 o 11 := by rw [em57]; exact aln_ob obm56 (o_lt0 hm56 (by decide))
  refine cpA F fz_X11_652 (fun _ => hnm) dX11_init_473 obm57 rfl rfl ?_
  obtain ⟨d58, ed58⟩ : ∃ z, z = st d57 o 81 (o + 57) := ⟨_, rfl⟩
  refine v_nD ed58 ?_
  refine v_aload_n F dX11_init_476 rfl rfl ?_
  refine v_sipush F dX11_init_477 rfl ⟨by decide, by decide⟩ ?_
  refine v_newa (t := 101) (ty := .int) F dX11_init_480 rfl rfl ⟨by decide, by decide⟩ rfl (fun _ _ => rfl) rfl q348 ⟨by decide, by decide⟩ (by decide) (fun _ _ => trivial) (Nat.le_of_ble_eq_true rfl) (ks' := 45722) rfl (Nat.le_of_ble_eq_true rfl) hm57 ?_
  obtain ⟨m58, em58⟩ : ∃ z, z = aln m57 ((101 : Nat) : Int) 200 := ⟨_, rfl⟩
  refine v_nM em58 ?_
  have hm58 : m58 0 0 = (o + 59) := by rw [em58]; exact aln_nxo hm57 ho (by decide) rfl
  have obm58 : OB m58 o 11 := by rw [em58]; exact aln_ob obm57 (o_lt0 hm57 (by decide))
  refine cpA F fz_X11_691 (fun _ => hnm) dX11_init_482 obm58 rfl rfl ?_
  obtain ⟨d59, ed59⟩ : ∃ z, z = st d58 o 83 (o + 58) := ⟨_, rfl⟩
  refine v_nD ed59 ?_
  refine v_aload_n F dX11_init_485 rfl rfl ?_
  refine v_sipush F dX11_init_486 rfl ⟨by decide, by decide⟩ ?_
  refine v_newa (t := 101) (ty := .int) F dX11_init_489 rfl rfl ⟨by decide, by decide⟩ rfl (fun _ _ => rfl) rfl q348 ⟨by decide, by decide⟩ (by decide) (fun _ _ => trivial) (Nat.le_of_ble_eq_true rfl) (ks' := 45922) rfl (Nat.le_of_ble_eq_true rfl) hm58 ?_
  obtain ⟨m59, em59⟩ : ∃ z, z = aln m58 ((101 : Nat) : Int) 200 := ⟨_, rfl⟩
  refine v_nM em59 ?_
  have hm59 : m59 0 0 = (o + 60) := by rw [em59]; exact aln_nxo hm58 ho (by decide) rfl
  have obm59 : OB m59 o 11 := by rw [em59]; exact aln_ob obm58 (o_lt0 hm58 (by decide))
  refine cpA F fz_X11_661 (fun _ => hnm) dX11_init_491 obm59 rfl rfl ?_
  obtain ⟨d60, ed60⟩ : ∃ z, z = st d59 o 84 (o + 59) := ⟨_, rfl⟩
  refine v_nD ed60 ?_
  refine v_aload_n F dX11_init_494 rfl rfl ?_
  refine v_sipush F dX11_init_495 rfl ⟨by decide, by decide⟩ ?_
  refine v_newa (t := 101) (ty := .int) F dX11_init_498 rfl rfl ⟨by decide, by decide⟩ rfl (fun _ _ => rfl) rfl q348 ⟨by decide, by decide⟩ (by decide) (fun _ _ => trivial) (Nat.le_of_ble_eq_true rfl) (ks' := 46122) rfl (Nat.le_of_ble_eq_true rfl) hm59 ?_
  obtain ⟨m60, em60⟩ : ∃ z, z = aln m59 ((101 : Nat) : Int) 200 := ⟨_, rfl⟩
  refine v_nM em60 ?_
  have hm60 : m60 0 0 = (o + 61) := by rw [em60]; exact aln_nxo hm59 ho (by decide) rfl
  have obm60 : OB m60 o 11 := by rw [em60]; exact aln_ob obm59 (o_lt0 hm59 (by decide))
  refine cpA F fz_X11_658 (fun _ => hnm) dX11_init_500 obm60 rfl rfl ?_
  obtain ⟨d61, ed61⟩ : ∃ z, z = st d60 o 85 (o + 60) := ⟨_, rfl⟩
  refine v_nD ed61 ?_
  refine v_aload_n F dX11_init_503 rfl rfl ?_
  refine v_sipush F dX11_init_504 rfl ⟨by decide, by decide⟩ ?_
  refine v_newa (t := 101) (ty := .int) F dX11_init_507 rfl rfl ⟨by decide, by decide⟩ rfl (fun _ _ => rfl) rfl q348 ⟨by decide, by decide⟩ (by decide) (fun _ _ => trivial) (Nat.le_of_ble_eq_true rfl) (ks' := 46322) rfl (Nat.le_of_ble_eq_true rfl) hm60 ?_
  obtain ⟨m61, em61⟩ : ∃ z, z = aln m60 ((101 : Nat) : Int) 200 := ⟨_, rfl⟩
  refine v_nM em61 ?_
  have hm61 : m61 0 0 = (o + 62) := by rw [em61]; exact aln_nxo hm60 ho (by decide) rfl
  have obm61 : OB m61 o 11 := by rw [em61]; exact aln_ob obm60 (o_lt0 hm60 (by decide))
  refine cpA F fz_X11_673 (fun _ => hnm) dX11_init_509 obm61 rfl rfl ?_
  obtain ⟨d62, ed62⟩ : ∃ z, z = st d61 o 86 (o + 61) := ⟨_, rfl⟩
  refine v_nD ed62 ?_
  refine v_aload_n F dX11_init_512 rfl rfl ?_
  refine v_sipush F dX11_init_513 rfl ⟨by decide, by decide⟩ ?_
  refine v_newa (t := 103) (ty := .boolean) F dX11_init_516 rfl rfl ⟨by decide, by decide⟩ rfl (fun _ _ => rfl) rfl q533 ⟨by decide, by decide⟩ (by decide) (fun _ _ => trivial) (Nat.le_of_ble_eq_true rfl) (ks' := 46522) rfl (Nat.le_of_ble_eq_true rfl) hm61 ?_
  obtain ⟨m62, em62⟩ : ∃ z, z = aln m61 ((103 : Nat) : Int) 200 := ⟨_, rfl⟩
  refine v_nM em62 ?_
  have hm62 : m62 0 0 = (o + 63) := by rw [em62]; exact aln_nxo hm61 ho (by decide) rfl
  have obm62 : OB m62 o 11 := by rw [em62]; exact aln_ob obm61 (o_lt0 hm61 (by decide))
  refine cpA F fz_X11_667 (fun _ => hnm) dX11_init_518 obm62 rfl rfl ?_
  obtain ⟨d63, ed63⟩ : ∃ z, z = st d62 o 87 (o + 62) := ⟨_, rfl⟩
  refine v_nD ed63 ?_
  refine v_aload_n F dX11_init_521 rfl rfl ?_
  refine v_sipush F dX11_init_522 rfl ⟨by decide, by decide⟩ ?_
  refine v_newa (t := 101) (ty := .int) F dX11_init_525 rfl rfl ⟨by decide, by decide⟩ rfl (fun _ _ => rfl) rfl q348 ⟨by decide, by decide⟩ (by decide) (fun _ _ => trivial) (Nat.le_of_ble_eq_true rfl) (ks' := 46722) rfl (Nat.le_of_ble_eq_true rfl) hm62 ?_
  obtain ⟨m63, em63⟩ : ∃ z, z = aln m62 ((101 : Nat) : Int) 200 := ⟨_, rfl⟩
  refine v_nM em63 ?_
  have hm63 : m63 0 0 = (o + 64) := by rw [em63]; exact aln_nxo hm62 ho (by decide) rfl
  have obm63 : OB m63 o 11 := by rw [em63]; exact aln_ob obm62 (o_lt0 hm62 (by decide))
  refine cpA F fz_X11_697 (fun _ => hnm) dX11_init_527 obm63 rfl rfl ?_
  obtain ⟨d64, ed64⟩ : ∃ z, z = st d63 o 88 (o + 63) := ⟨_, rfl⟩
  refine v_nD ed64 ?_
  refine v_aload_n F dX11_init_530 rfl rfl ?_
  refine v_sipush F dX11_init_531 rfl ⟨by decide, by decide⟩ ?_
  refine v_newa (t := 101) (ty := .int) F dX11_init_534 rfl rfl ⟨by decide, by decide⟩ rfl (fun _ _ => rfl) rfl q348 ⟨by decide, by decide⟩ (by decide) (fun _ _ => trivial) (Nat.le_of_ble_eq_true rfl) (ks' := 47922) rfl (Nat.le_of_ble_eq_true rfl) hm63 ?_
  obtain ⟨m64, em64⟩ : ∃ z, z = aln m63 ((101 : Nat) : Int) 1200 := ⟨_, rfl⟩
  refine v_nM em64 ?_
  have hm64 : m64 0 0 = (o + 65) := by rw [em64]; exact aln_nxo hm63 ho (by decide) rfl
  have obm64 : OB m64 o 11 := by rw [em64]; exact aln_ob obm63 (o_lt0 hm63 (by decide))
  refine cpA F fz_X11_664 (fun _ => hnm) dX11_init_536 obm64 rfl rfl ?_
  obtain ⟨d65, ed65⟩ : ∃ z, z = st d64 o 89 (o + 64) := ⟨_, rfl⟩
  refine v_nD ed65 ?_
  refine v_aload_n F dX11_init_539 rfl rfl ?_
  refine v_sipush F dX11_init_540 rfl ⟨by decide, by decide⟩ ?_
  refine v_newa (t := 102) (ty := .byte) F dX11_init_543 rfl rfl ⟨by decide, by decide⟩ rfl (fun _ _ => rfl) rfl q347 ⟨by decide, by decide⟩ (by decide) (fun _ _ => trivial) (Nat.le_of_ble_eq_true rfl) (ks' := 58722) rfl (Nat.le_of_ble_eq_true rfl) hm64 ?_
  obtain ⟨m65, em65⟩ : ∃ z, z = aln m64 ((102 : Nat) : Int) 10800 := ⟨_, rfl⟩
  refine v_nM em65 ?_
  have hm65 : m65 0 0 = (o + 66) := by rw [em65]; exact aln_nxo hm64 ho (by decide) rfl
  have obm65 : OB m65 o 11 := by rw [em65]; exact aln_ob obm64 (o_lt0 hm64 (by decide))
  refine cpA F fz_X11_722 (fun _ => hnm) dX11_init_545 obm65 rfl rfl ?_
  obtain ⟨d66, ed66⟩ : ∃ z, z = st d65 o 90 (o + 65) := ⟨_, rfl⟩
  refine v_nD ed66 ?_
  refine v_aload_n F dX11_init_548 rfl rfl ?_
  refine v_sipush F dX11_init_549 rfl ⟨by decide, by decide⟩ ?_
  refine v_newa (t := 102) (ty := .byte) F dX11_init_552 rfl rfl ⟨by decide, by decide⟩ rfl (fun _ _ => rfl) rfl q347 ⟨by decide, by decide⟩ (by decide) (fun _ _ => trivial) (Nat.le_of_ble_eq_true rfl) (ks' := 69522) rfl (Nat.le_of_ble_eq_true rfl) hm65 ?_
  obtain ⟨m66, em66⟩ : ∃ z, z = aln m65 ((102 : Nat) : Int) 10800 := ⟨_, rfl⟩
  refine v_nM em66 ?_
  have hm66 : m66 0 0 = (o + 67) := by rw [em66]; exact aln_nxo hm65 ho (by decide) rfl
  have obm66 : OB m66 o 11 := by rw [em66]; exact aln_ob obm65 (o_lt0 hm65 (by decide))
  refine cpA F fz_X11_725 (fun _ => hnm) dX11_init_554 obm66 rfl rfl ?_
  obtain ⟨d67, ed67⟩ : ∃ z, z = st d66 o 91 (o + 66) := ⟨_, rfl⟩
  refine v_nD ed67 ?_
  refine v_aload_n F dX11_init_557 rfl rfl ?_
  refine v_sipush F dX11_init_558 rfl ⟨by decide, by decide⟩ ?_
  refine v_newa (t := 103) (ty := .boolean) F dX11_init_561 rfl rfl ⟨by decide, by decide⟩ rfl (fun _ _ => rfl) rfl q533 ⟨by decide, by decide⟩ (by decide) (fun _ _ => trivial) (Nat.le_of_ble_eq_true rfl) (ks' := 69722) rfl (Nat.le_of_ble_eq_true rfl) hm66 ?_
  obtain ⟨m67, em67⟩ : ∃ z, z = aln m66 ((103 : Nat) : Int) 200 := ⟨_, rfl⟩
  refine v_nM em67 ?_
  have hm67 : m67 0 0 = (o + 68) := by rw [em67]; exact aln_nxo hm66 ho (by decide) rfl
  have obm67 : OB m67 o 11 := by rw [em67]; exact aln_ob obm66 (o_lt0 hm66 (by decide))
  refine cpA F fz_X11_679 (fun _ => hnm) dX11_init_563 obm67 rfl rfl ?_
  obtain ⟨d68, ed68⟩ : ∃ z, z = st d67 o 92 (o + 67) := ⟨_, rfl⟩
  refine v_nD ed68 ?_
  refine v_aload_n F dX11_init_566 rfl rfl ?_
  refine v_bipush F dX11_init_567 rfl ⟨by decide, by decide⟩ ?_
  refine v_newa (t := 101) (ty := .int) F dX11_init_569 rfl rfl ⟨by decide, by decide⟩ rfl (fun _ _ => rfl) rfl q348 ⟨by decide, by decide⟩ (by decide) (fun _ _ => trivial) (Nat.le_of_ble_eq_true rfl) (ks' := 69729) rfl (Nat.le_of_ble_eq_true rfl) hm67 ?_
  obtain ⟨m68, em68⟩ : ∃ z, z = aln m67 ((101 : Nat) : Int) 7 := ⟨_, rfl⟩
  refine v_nM em68 ?_
  have hm68 : m68 0 0 = (o + 69) := by rw [em68]; exact aln_nxo hm67 ho (by decide) rfl
  have obm68 : OB m68 o 11 := by rw [em68]; exact aln_ob obm67 (o_lt0 hm67 (by decide))
  refine cpA F fz_X11_549 (fun _ => hnm) dX11_init_571 obm68 rfl rfl ?_
  obtain ⟨d69, ed69⟩ : ∃ z, z = st d68 o 93 (o + 68) := ⟨_, rfl⟩
  refine v_nD ed69 ?_
  refine v_aload_n F dX11_init_574 rfl rfl ?_
  refine v_sipush F dX11_init_575 rfl ⟨by decide, by decide⟩ ?_
  refine v_newa (t := 101) (ty := .int) F dX11_init_578 rfl rfl ⟨by decide, by decide⟩ rfl (fun _ _ => rfl) rfl q348 ⟨by decide, by decide⟩ (by decide) (fun _ _ => trivial) (Nat.le_of_ble_eq_true rfl) (ks' := 71129) rfl (Nat.le_of_ble_eq_true rfl) hm68 ?_
  obtain ⟨m69, em69⟩ : ∃ z, z = aln m68 ((101 : Nat) : Int) 1400 := ⟨_, rfl⟩
  refine v_nM em69 ?_
  have hm69 : m69 0 0 = (o + 70) := by rw [em69]; exact aln_nxo hm68 ho (by decide) rfl
  have obm69 : OB m69 o 11 := by rw [em69]; exact aln_ob obm68 (o_lt0 hm68 (by decide))
  refine cpA F fz_X11_740 (fun _ => hnm) dX11_init_580 obm69 rfl rfl ?_
  obtain ⟨d70, ed70⟩ : ∃ z, z = st d69 o 94 (o + 69) := ⟨_, rfl⟩
  refine v_nD ed70 ?_
  refine v_aload_n F dX11_init_583 rfl rfl ?_
  refine v_bipush F dX11_init_584 rfl ⟨by decide, by decide⟩ ?_
  refine v_newa (t := 103) (ty := .boolean) F dX11_init_586 rfl rfl ⟨by decide, by decide⟩ rfl (fun _ _ => rfl) rfl q533 ⟨by decide, by decide⟩ (by decide) (fun _ _ => trivial) (Nat.le_of_ble_eq_true rfl) (ks' := 71136) rfl (Nat.le_of_ble_eq_true rfl) hm69 ?_
  obtain ⟨m70, em70⟩ : ∃ z, z = aln m69 ((103 : Nat) : Int) 7 := ⟨_, rfl⟩
  refine v_nM em70 ?_
  have hm70 : m70 0 0 = (o + 71) := by rw [em70]; exact aln_nxo hm69 ho (by decide) rfl
  have obm70 : OB m70 o 11 := by rw [em70]; exact aln_ob obm69 (o_lt0 hm69 (by decide))
  refine cpA F fz_X11_552 (fun _ => hnm) dX11_init_588 obm70 rfl rfl ?_
  obtain ⟨d71, ed71⟩ : ∃ z, z = st d70 o 95 (o + 70) := ⟨_, rfl⟩
  refine v_nD ed71 ?_
  refine v_aload_n F dX11_init_591 rfl rfl ?_
  refine v_bipush F dX11_init_592 rfl ⟨by decide, by decide⟩ ?_
  refine v_newa (t := 103) (ty := .boolean) F dX11_init_594 rfl rfl ⟨by decide, by decide⟩ rfl (fun _ _ => rfl) rfl q533 ⟨by decide, by decide⟩ (by decide) (fun _ _ => trivial) (Nat.le_of_ble_eq_true rfl) (ks' := 71143) rfl (Nat.le_of_ble_eq_true rfl) hm70 ?_
  obtain ⟨m71, em71⟩ : ∃ z, z = aln m70 ((103 : Nat) : Int) 7 := ⟨_, rfl⟩
  refine v_nM em71 ?_
  have hm71 : m71 0 0 = (o + 72) := by rw [em71]; exact aln_nxo hm70 ho (by decide) rfl
  have obm71 : OB m71 o 11 := by rw [em71]; exact aln_ob obm70 (o_lt0 hm70 (by decide))
  refine cpA F fz_X11_555 (fun _ => hnm) dX11_init_596 obm71 rfl rfl ?_
  obtain ⟨d72, ed72⟩ : ∃ z, z = st d71 o 96 (o + 71) := ⟨_, rfl⟩
  refine v_nD ed72 ?_
  refine v_aload_n F dX11_init_599 rfl rfl ?_
  refine v_bipush F dX11_init_600 rfl ⟨by decide, by decide⟩ ?_
  refine v_newa (t := 103) (ty := .boolean) F dX11_init_602 rfl rfl ⟨by decide, by decide⟩ rfl (fun _ _ => rfl) rfl q533 ⟨by decide, by decide⟩ (by decide) (fun _ _ => trivial) (Nat.le_of_ble_eq_true rfl) (ks' := 71152) rfl (Nat.le_of_ble_eq_true rfl) hm71 ?_
  obtain ⟨m72, em72⟩ : ∃ z, z = aln m71 ((103 : Nat) : Int) 9 := ⟨_, rfl⟩
  refine v_nM em72 ?_
  have hm72 : m72 0 0 = (o + 73) := by rw [em72]; exact aln_nxo hm71 ho (by decide) rfl
  have obm72 : OB m72 o 11 := by rw [em72]; exact aln_ob obm71 (o_lt0 hm71 (by decide))
  refine cpA F fz_X11_764 (fun _ => hnm) dX11_init_604 obm72 rfl rfl ?_
  obtain ⟨d73, ed73⟩ : ∃ z, z = st d72 o 101 (o + 72) := ⟨_, rfl⟩
  refine v_nD ed73 ?_
  refine v_aload_n F dX11_init_607 rfl rfl ?_
  refine v_sipush F dX11_init_608 rfl ⟨by decide, by decide⟩ ?_
  refine v_newa (t := 101) (ty := .int) F dX11_init_611 rfl rfl ⟨by decide, by decide⟩ rfl (fun _ _ => rfl) rfl q348 ⟨by decide, by decide⟩ (by decide) (fun _ _ => trivial) (Nat.le_of_ble_eq_true rfl) (ks' := 72952) rfl (Nat.le_of_ble_eq_true rfl) hm72 ?_
  obtain ⟨m73, em73⟩ : ∃ z, z = aln m72 ((101 : Nat) : Int) 1800 := ⟨_, rfl⟩
  refine v_nM em73 ?_
  have hm73 : m73 0 0 = (o + 74) := by rw [em73]; exact aln_nxo hm72 ho (by decide) rfl
  have obm73 : OB m73 o 11 := by rw [em73]; exact aln_ob obm72 (o_lt0 hm72 (by decide))
  refine cpA F fz_X11_780 (fun _ => hnm) dX11_init_613 obm73 rfl rfl ?_
  obtain ⟨d74, ed74⟩ : ∃ z, z = st d73 o 105 (o + 73) := ⟨_, rfl⟩
  refine v_nD ed74 ?_
  refine v_aload_n F dX11_init_616 rfl rfl ?_
  refine v_sipush F dX11_init_617 rfl ⟨by decide, by decide⟩ ?_
  refine v_newa (t := 101) (ty := .int) F dX11_init_620 rfl rfl ⟨by decide, by decide⟩ rfl (fun _ _ => rfl) rfl q348 ⟨by decide, by decide⟩ (by decide) (fun _ _ => trivial) (Nat.le_of_ble_eq_true rfl) (ks' := 74752) rfl (Nat.le_of_ble_eq_true rfl) hm73 ?_
  obtain ⟨m74, em74⟩ : ∃ z, z = aln m73 ((101 : Nat) : Int) 1800 := ⟨_, rfl⟩
  refine v_nM em74 ?_
  have hm74 : m74 0 0 = (o + 75) := by rw [em74]; exact aln_nxo hm73 ho (by decide) rfl
  have obm74 : OB m74 o 11 := by rw [em74]; exact aln_ob obm73 (o_lt0 hm73 (by decide))
  refine cpA F fz_X11_792 (fun _ => hnm) dX11_init_622 obm74 rfl rfl ?_
  obtain ⟨d75, ed75⟩ : ∃ z, z = st d74 o 106 (o + 74) := ⟨_, rfl⟩
  refine v_nD ed75 ?_
  refine v_aload_n F dX11_init_625 rfl rfl ?_
  refine v_sipush F dX11_init_626 rfl ⟨by decide, by decide⟩ ?_
  refine v_newa (t := 101) (ty := .int) F dX11_init_629 rfl rfl ⟨by decide, by decide⟩ rfl (fun _ _ => rfl) rfl q348 ⟨by decide, by decide⟩ (by decide) (fun _ _ => trivial) (Nat.le_of_ble_eq_true rfl) (ks' := 74952) rfl (Nat.le_of_ble_eq_true rfl) hm74 ?_
  obtain ⟨m75, em75⟩ : ∃ z, z = aln m74 ((101 : Nat) : Int) 200 := ⟨_, rfl⟩
  refine v_nM em75 ?_
  have hm75 : m75 0 0 = (o + 76) := by rw [em75]; exact aln_nxo hm74 ho (by decide) rfl
  have obm75 : OB m75 o 11 := by rw [em75]; exact aln_ob obm74 (o_lt0 hm74 (by decide))
  refine cpA F fz_X11_789 (fun _ => hnm) dX11_init_631 obm75 rfl rfl ?_
  obtain ⟨d76, ed76⟩ : ∃ z, z = st d75 o 107 (o + 75) := ⟨_, rfl⟩
  refine v_nD ed76 ?_
  refine v_aload_n F dX11_init_634 rfl rfl ?_
  refine v_bipush F dX11_init_635 rfl ⟨by decide, by decide⟩ ?_
  refine v_newa (t := 104) (ty := .long) F dX11_init_637 rfl rfl ⟨by decide, by decide⟩ rfl (fun _ _ => rfl) rfl q898 ⟨by decide, by decide⟩ (by decide) (fun _ _ => trivial) (Nat.le_of_ble_eq_true rfl) (ks' := 74961) rfl (Nat.le_of_ble_eq_true rfl) hm75 ?_
  obtain ⟨m76, em76⟩ : ∃ z, z = aln m75 ((104 : Nat) : Int) 9 := ⟨_, rfl⟩
  refine v_nM em76 ?_
  have hm76 : m76 0 0 = (o + 77) := by rw [em76]; exact aln_nxo hm75 ho (by decide) rfl
  have obm76 : OB m76 o 11 := by rw [em76]; exact aln_ob obm75 (o_lt0 hm75 (by decide))
  refine cpA F fz_X11_801 (fun _ => hnm) dX11_init_639 obm76 rfl rfl ?_
  obtain ⟨d77, ed77⟩ : ∃ z, z = st d76 o 108 (o + 76) := ⟨_, rfl⟩
  refine v_nD ed77 ?_
  refine v_aload_n F dX11_init_642 rfl rfl ?_
  refine v_bipush F dX11_init_643 rfl ⟨by decide, by decide⟩ ?_
  refine v_newa (t := 101) (ty := .int) F dX11_init_645 rfl rfl ⟨by decide, by decide⟩ rfl (fun _ _ => rfl) rfl q348 ⟨by decide, by decide⟩ (by decide) (fun _ _ => trivial) (Nat.le_of_ble_eq_true rfl) (ks' := 74970) rfl (Nat.le_of_ble_eq_true rfl) hm76 ?_
  obtain ⟨m77, em77⟩ : ∃ z, z = aln m76 ((101 : Nat) : Int) 9 := ⟨_, rfl⟩
  refine v_nM em77 ?_
  have hm77 : m77 0 0 = (o + 78) := by rw [em77]; exact aln_nxo hm76 ho (by decide) rfl
  have obm77 : OB m77 o 11 := by rw [em77]; exact aln_ob obm76 (o_lt0 hm76 (by decide))
  refine cpA F fz_X11_805 (fun _ => hnm) dX11_init_647 obm77 rfl rfl ?_
  obtain ⟨d78, ed78⟩ : ∃ z, z = st d77 o 109 (o + 77) := ⟨_, rfl⟩
  refine v_nD ed78 ?_
  refine v_aload_n F dX11_init_650 rfl rfl ?_
  refine v_sipush F dX11_init_651 rfl ⟨by decide, by decide⟩ ?_
  refine v_newa (t := 104) (ty := .long) F dX11_init_654 rfl rfl ⟨by decide, by decide⟩ rfl (fun _ _ => rfl) rfl q898 ⟨by decide, by decide⟩ (by decide) (fun _ _ => trivial) (Nat.le_of_ble_eq_true rfl) (ks' := 75330) rfl (Nat.le_of_ble_eq_true rfl) hm77 ?_
  obtain ⟨m78, em78⟩ : ∃ z, z = aln m77 ((104 : Nat) : Int) 360 := ⟨_, rfl⟩
  refine v_nM em78 ?_
  have hm78 : m78 0 0 = (o + 79) := by rw [em78]; exact aln_nxo hm77 ho (by decide) rfl
  have obm78 : OB m78 o 11 := by rw [em78]; exact aln_ob obm77 (o_lt0 hm77 (by decide))
  refine cpA F fz_X11_814 (fun _ => hnm) dX11_init_656 obm78 rfl rfl ?_
  obtain ⟨d79, ed79⟩ : ∃ z, z = st d78 o 117 (o + 78) := ⟨_, rfl⟩
  refine v_nD ed79 ?_
  refine v_aload_n F dX11_init_659 rfl rfl ?_
  refine v_bipush F dX11_init_660 rfl ⟨by decide, by decide⟩ ?_
  refine v_newa (t := 101) (ty := .int) F dX11_init_662 rfl rfl ⟨by decide, by decide⟩ rfl (fun _ _ => rfl) rfl q348 ⟨by decide, by decide⟩ (by decide) (fun _ _ => trivial) (Nat.le_of_ble_eq_true rfl) (ks' := 75370) rfl (Nat.le_of_ble_eq_true rfl) hm78 ?_
  obtain ⟨m79, em79⟩ : ∃ z, z = aln m78 ((101 : Nat) : Int) 40 := ⟨_, rfl⟩
  refine v_nM em79 ?_
  have hm79 : m79 0 0 = (o + 80) := by rw [em79]; exact aln_nxo hm78 ho (by decide) rfl
  have obm79 : OB m79 o 11 := by rw [em79]; exact aln_ob obm78 (o_lt0 hm78 (by decide))
  refine cpA F fz_X11_820 (fun _ => hnm) dX11_init_664 obm79 rfl rfl ?_
  obtain ⟨d80, ed80⟩ : ∃ z, z = st d79 o 118 (o + 79) := ⟨_, rfl⟩
  refine v_nD ed80 ?_
  refine v_aload_n F dX11_init_667 rfl rfl ?_
  refine v_bipush F dX11_init_668 rfl ⟨by decide, by decide⟩ ?_
  refine v_newa (t := 101) (ty := .int) F dX11_init_670 rfl rfl ⟨by decide, by decide⟩ rfl (fun _ _ => rfl) rfl q348 ⟨by decide, by decide⟩ (by decide) (fun _ _ => trivial) (Nat.le_of_ble_eq_true rfl) (ks' := 75410) rfl (Nat.le_of_ble_eq_true rfl) hm79 ?_
  obtain ⟨m80, em80⟩ : ∃ z, z = aln m79 ((101 : Nat) : Int) 40 := ⟨_, rfl⟩
  refine v_nM em80 ?_
  have hm80 : m80 0 0 = (o + 81) := by rw [em80]; exact aln_nxo hm79 ho (by decide) rfl
  have obm80 : OB m80 o 11 := by rw [em80]; exact aln_ob obm79 (o_lt0 hm79 (by decide))
  refine cpA F fz_X11_823 (fun _ => hnm) dX11_init_672 obm80 rfl rfl ?_
  obtain ⟨d81, ed81⟩ : ∃ z, z = st d80 o 119 (o + 80) := ⟨_, rfl⟩
  refine v_nD ed81 ?_
  refine v_aload_n F dX11_init_675 rfl rfl ?_
  refine v_bipush F dX11_init_676 rfl ⟨by decide, by decide⟩ ?_
  refine v_newa (t := 101) (ty := .int) F dX11_init_678 rfl rfl ⟨by decide, by decide⟩ rfl (fun _ _ => rfl) rfl q348 ⟨by decide, by decide⟩ (by decide) (fun _ _ => trivial) (Nat.le_of_ble_eq_true rfl) (ks' := 75419) rfl (Nat.le_of_ble_eq_true rfl) hm80 ?_
  obtain ⟨m81, em81⟩ : ∃ z, z = aln m80 ((101 : Nat) : Int) 9 := ⟨_, rfl⟩
  refine v_nM em81 ?_
  have hm81 : m81 0 0 = (o + 82) := by rw [em81]; exact aln_nxo hm80 ho (by decide) rfl
  have obm81 : OB m81 o 11 := by rw [em81]; exact aln_ob obm80 (o_lt0 hm80 (by decide))
  refine cpA F fz_X11_826 (fun _ => hnm) dX11_init_680 obm81 rfl rfl ?_
  obtain ⟨d82, ed82⟩ : ∃ z, z = st d81 o 121 (o + 81) := ⟨_, rfl⟩
  refine v_nD ed82 ?_
  refine v_aload_n F dX11_init_683 rfl rfl ?_
  refine v_bipush F dX11_init_684 rfl ⟨by decide, by decide⟩ ?_
  refine v_newa (t := 101) (ty := .int) F dX11_init_686 rfl rfl ⟨by decide, by decide⟩ rfl (fun _ _ => rfl) rfl q348 ⟨by decide, by decide⟩ (by decide) (fun _ _ => trivial) (Nat.le_of_ble_eq_true rfl) (ks' := 75509) rfl (Nat.le_of_ble_eq_true rfl) hm81 ?_
  obtain ⟨m82, em82⟩ : ∃ z, z = aln m81 ((101 : Nat) : Int) 90 := ⟨_, rfl⟩
  refine v_nM em82 ?_
  have hm82 : m82 0 0 = (o + 83) := by rw [em82]; exact aln_nxo hm81 ho (by decide) rfl
  have obm82 : OB m82 o 11 := by rw [em82]; exact aln_ob obm81 (o_lt0 hm81 (by decide))
  refine cpA F fz_X11_896 (fun _ => hnm) dX11_init_688 obm82 rfl rfl ?_
  obtain ⟨d83, ed83⟩ : ∃ z, z = st d82 o 123 (o + 82) := ⟨_, rfl⟩
  refine v_nD ed83 ?_
  refine v_aload_n F dX11_init_691 rfl rfl ?_
  refine v_bipush F dX11_init_692 rfl ⟨by decide, by decide⟩ ?_
  refine v_newa (t := 101) (ty := .int) F dX11_init_694 rfl rfl ⟨by decide, by decide⟩ rfl (fun _ _ => rfl) rfl q348 ⟨by decide, by decide⟩ (by decide) (fun _ _ => trivial) (Nat.le_of_ble_eq_true rfl) (ks' := 75519) rfl (Nat.le_of_ble_eq_true rfl) hm82 ?_
  obtain ⟨m83, em83⟩ : ∃ z, z = aln m82 ((101 : Nat) : Int) 10 := ⟨_, rfl⟩
  refine v_nM em83 ?_
  have hm83 : m83 0 0 = (o + 84) := by rw [em83]; exact aln_nxo hm82 ho (by decide) rfl
  have obm83 : OB m83 o 11 := by rw [em83]; exact aln_ob obm82 (o_lt0 hm82 (by decide))
  refine cpA F fz_X11_893 (fun _ => hnm) dX11_init_696 obm83 rfl rfl ?_
  obtain ⟨d84, ed84⟩ : ∃ z, z = st d83 o 124 (o + 83) := ⟨_, rfl⟩
  refine v_nD ed84 ?_
  refine v_aload_n F dX11_init_699 rfl rfl ?_
  refine v_bipush F dX11_init_700 rfl ⟨by decide, by decide⟩ ?_
  refine v_newa (t := 101) (ty := .int) F dX11_init_702 rfl rfl ⟨by decide, by decide⟩ rfl (fun _ _ => rfl) rfl q348 ⟨by decide, by decide⟩ (by decide) (fun _ _ => trivial) (Nat.le_of_ble_eq_true rfl) (ks' := 75529) rfl (Nat.le_of_ble_eq_true rfl) hm83 ?_
  obtain ⟨m84, em84⟩ : ∃ z, z = aln m83 ((101 : Nat) : Int) 10 := ⟨_, rfl⟩
  refine v_nM em84 ?_
  have hm84 : m84 0 0 = (o + 85) := by rw [em84]; exact aln_nxo hm83 ho (by decide) rfl
  have obm84 : OB m84 o 11 := by rw [em84]; exact aln_ob obm83 (o_lt0 hm83 (by decide))
  refine cpA F fz_X11_899 (fun _ => hnm) dX11_init_704 obm84 rfl rfl ?_
  obtain ⟨d85, ed85⟩ : ∃ z, z = st d84 o 125 (o + 84) := ⟨_, rfl⟩
  refine v_nD ed85 ?_
  refine v_aload_n F dX11_init_707 rfl rfl ?_
  refine v_bipush F dX11_init_708 rfl ⟨by decide, by decide⟩ ?_
  refine v_newa (t := 101) (ty := .int) F dX11_init_710 rfl rfl ⟨by decide, by decide⟩ rfl (fun _ _ => rfl) rfl q348 ⟨by decide, by decide⟩ (by decide) (fun _ _ => trivial) (Nat.le_of_ble_eq_true rfl) (ks' := 75538) rfl (Nat.le_of_ble_eq_true rfl) hm84 ?_
  obtain ⟨m85, em85⟩ : ∃ z, z = aln m84 ((101 : Nat) : Int) 9 := ⟨_, rfl⟩
  refine v_nM em85 ?_
  have hm85 : m85 0 0 = (o + 86) := by rw [em85]; exact aln_nxo hm84 ho (by decide) rfl
  have obm85 : OB m85 o 11 := by rw [em85]; exact aln_ob obm84 (o_lt0 hm84 (by decide))
  refine cpA F fz_X11_909 (fun _ => hnm) dX11_init_712 obm85 rfl rfl ?_
  obtain ⟨d86, ed86⟩ : ∃ z, z = st d85 o 126 (o + 85) := ⟨_, rfl⟩
  refine v_nD ed86 ?_
  refine v_aload_n F dX11_init_715 rfl rfl ?_
  refine v_sipush F dX11_init_716 rfl ⟨by decide, by decide⟩ ?_
  refine v_newa (t := 101) (ty := .int) F dX11_init_719 rfl rfl ⟨by decide, by decide⟩ rfl (fun _ _ => rfl) rfl q348 ⟨by decide, by decide⟩ (by decide) (fun _ _ => trivial) (Nat.le_of_ble_eq_true rfl) (ks' := 75738) rfl (Nat.le_of_ble_eq_true rfl) hm85 ?_
  obtain ⟨m86, em86⟩ : ∃ z, z = aln m85 ((101 : Nat) : Int) 200 := ⟨_, rfl⟩
  refine v_nM em86 ?_
  have hm86 : m86 0 0 = (o + 87) := by rw [em86]; exact aln_nxo hm85 ho (by decide) rfl
  have obm86 : OB m86 o 11 := by rw [em86]; exact aln_ob obm85 (o_lt0 hm85 (by decide))
  refine cpA F fz_X11_956 (fun _ => hnm) dX11_init_721 obm86 rfl rfl ?_
  obtain ⟨d87, ed87⟩ : ∃ z, z = st d86 o 127 (o + 86) := ⟨_, rfl⟩
  refine v_nD ed87 ?_
  refine v_aload_n F dX11_init_724 rfl rfl ?_
  refine v_sipush F dX11_init_725 rfl ⟨by decide, by decide⟩ ?_
  refine v_newa (t := 104) (ty := .long) F dX11_init_728 rfl rfl ⟨by decide, by decide⟩ rfl (fun _ _ => rfl) rfl q898 ⟨by decide, by decide⟩ (by decide) (fun _ _ => trivial) (Nat.le_of_ble_eq_true rfl) (ks' := 75938) rfl (Nat.le_of_ble_eq_true rfl) hm86 ?_
  obtain ⟨m87, em87⟩ : ∃ z, z = aln m86 ((104 : Nat) : Int) 200 := ⟨_, rfl⟩
  refine v_nM em87 ?_
  have hm87 : m87 0 0 = (o + 88) := by rw [em87]; exact aln_nxo hm86 ho (by decide) rfl
  have obm87 : OB m87 o 11 := by rw [em87]; exact aln_ob obm86 (o_lt0 hm86 (by decide))
  refine cpA F fz_X11_953 (fun _ => hnm) dX11_init_730 obm87 rfl rfl ?_
  obtain ⟨d88, ed88⟩ : ∃ z, z = st d87 o 128 (o + 87) := ⟨_, rfl⟩
  refine v_nD ed88 ?_
  refine v_aload_n F dX11_init_733 rfl rfl ?_
  refine v_bipush F dX11_init_734 rfl ⟨by decide, by decide⟩ ?_
  refine v_newa (t := 103) (ty := .boolean) F dX11_init_736 rfl rfl ⟨by decide, by decide⟩ rfl (fun _ _ => rfl) rfl q533 ⟨by decide, by decide⟩ (by decide) (fun _ _ => trivial) (Nat.le_of_ble_eq_true rfl) (ks' := 75947) rfl (Nat.le_of_ble_eq_true rfl) hm87 ?_
  obtain ⟨m88, em88⟩ : ∃ z, z = aln m87 ((103 : Nat) : Int) 9 := ⟨_, rfl⟩
  refine v_nM em88 ?_
  have hm88 : m88 0 0 = (o + 89) := by rw [em88]; exact aln_nxo hm87 ho (by decide) rfl
  have obm88 : OB m88 o 11 := by rw [em88]; exact aln_ob obm87 (o_lt0 hm87 (by decide))
  refine cpA F fz_X11_950 (fun _ => hnm) dX11_init_738 obm88 rfl rfl ?_
  obtain ⟨d89, ed89⟩ : ∃ z, z = st d88 o 129 (o + 88) := ⟨_, rfl⟩
  refine v_nD ed89 ?_
  refine v_aload_n F dX11_init_741 rfl rfl ?_
  refine v_sipush F dX11_init_742 rfl ⟨by decide, by decide⟩ ?_
  refine v_newa (t := 101) (ty := .int) F dX11_init_745 rfl rfl ⟨by decide, by decide⟩ rfl (fun _ _ => rfl) rfl q348 ⟨by decide, by decide⟩ (by decide) (fun _ _ => trivial) (Nat.le_of_ble_eq_true rfl) (ks' := 76147) rfl (Nat.le_of_ble_eq_true rfl) hm88 ?_
  obtain ⟨m89, em89⟩ : ∃ z, z = aln m88 ((101 : Nat) : Int) 200 := ⟨_, rfl⟩
  refine v_nM em89 ?_
  have hm89 : m89 0 0 = (o + 90) := by rw [em89]; exact aln_nxo hm88 ho (by decide) rfl
  have obm89 : OB m89 o 11 := by rw [em89]; exact aln_ob obm88 (o_lt0 hm88 (by decide))
  refine cpA F fz_X11_939 (fun _ => hnm) dX11_init_747 obm89 rfl rfl ?_
  obtain ⟨d90, ed90⟩ : ∃ z, z = st d89 o 130 (o + 89) := ⟨_, rfl⟩
  refine v_nD ed90 ?_
  refine v_aload_n F dX11_init_750 rfl rfl ?_
  refine v_bipush F dX11_init_751 rfl ⟨by decide, by decide⟩ ?_
  refine v_newa (t := 104) (ty := .long) F dX11_init_753 rfl rfl ⟨by decide, by decide⟩ rfl (fun _ _ => rfl) rfl q898 ⟨by decide, by decide⟩ (by decide) (fun _ _ => trivial) (Nat.le_of_ble_eq_true rfl) (ks' := 76156) rfl (Nat.le_of_ble_eq_true rfl) hm89 ?_
  obtain ⟨m90, em90⟩ : ∃ z, z = aln m89 ((104 : Nat) : Int) 9 := ⟨_, rfl⟩
  refine v_nM em90 ?_
  have hm90 : m90 0 0 = (o + 91) := by rw [em90]; exact aln_nxo hm89 ho (by decide) rfl
  have obm90 : OB m90 o 11 := by rw [em90]; exact aln_ob obm89 (o_lt0 hm89 (by decide))
  refine cpA F fz_X11_979 (fun _ => hnm) dX11_init_755 obm90 rfl rfl ?_
  obtain ⟨d91, ed91⟩ : ∃ z, z = st d90 o 131 (o + 90) := ⟨_, rfl⟩
  refine v_nD ed91 ?_
  refine v_aload_n F dX11_init_758 rfl rfl ?_
  refine v_bipush F dX11_init_759 rfl ⟨by decide, by decide⟩ ?_
  refine v_newa (t := 101) (ty := .int) F dX11_init_761 rfl rfl ⟨by decide, by decide⟩ rfl (fun _ _ => rfl) rfl q348 ⟨by decide, by decide⟩ (by decide) (fun _ _ => trivial) (Nat.le_of_ble_eq_true rfl) (ks' := 76237) rfl (Nat.le_of_ble_eq_true rfl) hm90 ?_
  obtain ⟨m91, em91⟩ : ∃ z, z = aln m90 ((101 : Nat) : Int) 81 := ⟨_, rfl⟩
  refine v_nM em91 ?_
  have hm91 : m91 0 0 = (o + 92) := by rw [em91]; exact aln_nxo hm90 ho (by decide) rfl
  have obm91 : OB m91 o 11 := by rw [em91]; exact aln_ob obm90 (o_lt0 hm90 (by decide))
  refine cpA F fz_X11_998 (fun _ => hnm) dX11_init_763 obm91 rfl rfl ?_
  obtain ⟨d92, ed92⟩ : ∃ z, z = st d91 o 132 (o + 91) := ⟨_, rfl⟩
  refine v_nD ed92 ?_
  refine v_aload_n F dX11_init_766 rfl rfl ?_
  refine v_bipush F dX11_init_767 rfl ⟨by decide, by decide⟩ ?_
  refine v_newa (t := 101) (ty := .int) F dX11_init_769 rfl rfl ⟨by decide, by decide⟩ rfl (fun _ _ => rfl) rfl q348 ⟨by decide, by decide⟩ (by decide) (fun _ _ => trivial) (Nat.le_of_ble_eq_true rfl) (ks' := 76318) rfl (Nat.le_of_ble_eq_true rfl) hm91 ?_
  obtain ⟨m92, em92⟩ : ∃ z, z = aln m91 ((101 : Nat) : Int) 81 := ⟨_, rfl⟩
  refine v_nM em92 ?_
  have hm92 : m92 0 0 = (o + 93) := by rw [em92]; exact aln_nxo hm91 ho (by decide) rfl
  have obm92 : OB m92 o 11 := by rw [em92]; exact aln_ob obm91 (o_lt0 hm91 (by decide))
  refine cpA F fz_X11_1025 (fun _ => hnm) dX11_init_771 obm92 rfl rfl ?_
  obtain ⟨d93, ed93⟩ : ∃ z, z = st d92 o 133 (o + 92) := ⟨_, rfl⟩
  refine v_nD ed93 ?_
  refine v_aload_n F dX11_init_774 rfl rfl ?_
  refine v_bipush F dX11_init_775 rfl ⟨by decide, by decide⟩ ?_
  refine v_newa (t := 103) (ty := .boolean) F dX11_init_777 rfl rfl ⟨by decide, by decide⟩ rfl (fun _ _ => rfl) rfl q533 ⟨by decide, by decide⟩ (by decide) (fun _ _ => trivial) (Nat.le_of_ble_eq_true rfl) (ks' := 76399) rfl (Nat.le_of_ble_eq_true rfl) hm92 ?_
  obtain ⟨m93, em93⟩ : ∃ z, z = aln m92 ((103 : Nat) : Int) 81 := ⟨_, rfl⟩
  refine v_nM em93 ?_
  have hm93 : m93 0 0 = (o + 94) := by rw [em93]; exact aln_nxo hm92 ho (by decide) rfl
  have obm93 : OB m93 o 11 := by rw [em93]; exact aln_ob obm92 (o_lt0 hm92 (by decide))
  refine cpA F fz_X11_1022 (fun _ => hnm) dX11_init_779 obm93 rfl rfl ?_
  obtain ⟨d94, ed94⟩ : ∃ z, z = st d93 o 134 (o + 93) := ⟨_, rfl⟩
  refine v_nD ed94 ?_
  refine v_aload_n F dX11_init_782 rfl rfl ?_
  refine v_bipush F dX11_init_783 rfl ⟨by decide, by decide⟩ ?_
  refine v_newa (t := 103) (ty := .boolean) F dX11_init_785 rfl rfl ⟨by decide, by decide⟩ rfl (fun _ _ => rfl) rfl q533 ⟨by decide, by decide⟩ (by decide) (fun _ _ => trivial) (Nat.le_of_ble_eq_true rfl) (ks' := 76480) rfl (Nat.le_of_ble_eq_true rfl) hm93 ?_
  obtain ⟨m94, em94⟩ : ∃ z, z = aln m93 ((103 : Nat) : Int) 81 := ⟨_, rfl⟩
  refine v_nM em94 ?_
  have hm94 : m94 0 0 = (o + 95) := by rw [em94]; exact aln_nxo hm93 ho (by decide) rfl
  have obm94 : OB m94 o 11 := by rw [em94]; exact aln_ob obm93 (o_lt0 hm93 (by decide))
  refine cpA F fz_X11_1031 (fun _ => hnm) dX11_init_787 obm94 rfl rfl ?_
  obtain ⟨d95, ed95⟩ : ∃ z, z = st d94 o 135 (o + 94) := ⟨_, rfl⟩
  refine v_nD ed95 ?_
  refine v_aload_n F dX11_init_790 rfl rfl ?_
  refine v_bipush F dX11_init_791 rfl ⟨by decide, by decide⟩ ?_
  refine v_newa (t := 101) (ty := .int) F dX11_init_793 rfl rfl ⟨by decide, by decide⟩ rfl (fun _ _ => rfl) rfl q348 ⟨by decide, by decide⟩ (by decide) (fun _ _ => trivial) (Nat.le_of_ble_eq_true rfl) (ks' := 76561) rfl (Nat.le_of_ble_eq_true rfl) hm94 ?_
  obtain ⟨m95, em95⟩ : ∃ z, z = aln m94 ((101 : Nat) : Int) 81 := ⟨_, rfl⟩
  refine v_nM em95 ?_
  have hm95 : m95 0 0 = (o + 96) := by rw [em95]; exact aln_nxo hm94 ho (by decide) rfl
  have obm95 : OB m95 o 11 := by rw [em95]; exact aln_ob obm94 (o_lt0 hm94 (by decide))
  refine cpA F fz_X11_1034 (fun _ => hnm) dX11_init_795 obm95 rfl rfl ?_
  obtain ⟨d96, ed96⟩ : ∃ z, z = st d95 o 136 (o + 95) := ⟨_, rfl⟩
  refine v_nD ed96 ?_
  refine v_aload_n F dX11_init_798 rfl rfl ?_
  refine v_bipush F dX11_init_799 rfl ⟨by decide, by decide⟩ ?_
  refine v_newa (t := 101) (ty := .int) F dX11_init_801 rfl rfl ⟨by decide, by decide⟩ rfl (fun _ _ => rfl) rfl q348 ⟨by decide, by decide⟩ (by decide) (fun _ _ => trivial) (Nat.le_of_ble_eq_true rfl) (ks' := 76570) rfl (Nat.le_of_ble_eq_true rfl) hm95 ?_
  obtain ⟨m96, em96⟩ : ∃ z, z = aln m95 ((101 : Nat) : Int) 9 := ⟨_, rfl⟩
  refine v_nM em96 ?_
  have hm96 : m96 0 0 = (o + 97) := by rw [em96]; exact aln_nxo hm95 ho (by decide) rfl
  have obm96 : OB m96 o 11 := by rw [em96]; exact aln_ob obm95 (o_lt0 hm95 (by decide))
  refine cpA F fz_X11_1069 (fun _ => hnm) dX11_init_803 obm96 rfl rfl ?_
  obtain ⟨d97, ed97⟩ : ∃ z, z = st d96 o 138 (o + 96) := ⟨_, rfl⟩
  refine v_nD ed97 ?_
  refine v_aload_n F dX11_init_806 rfl rfl ?_
  refine v_bipush F dX11_init_807 rfl ⟨by decide, by decide⟩ ?_
  refine v_newa (t := 101) (ty := .int) F dX11_init_809 rfl rfl ⟨by decide, by decide⟩ rfl (fun _ _ => rfl) rfl q348 ⟨by decide, by decide⟩ (by decide) (fun _ _ => trivial) (Nat.le_of_ble_eq_true rfl) (ks' := 76579) rfl (Nat.le_of_ble_eq_true rfl) hm96 ?_
  obtain ⟨m97, em97⟩ : ∃ z, z = aln m96 ((101 : Nat) : Int) 9 := ⟨_, rfl⟩
  refine v_nM em97 ?_
  have hm97 : m97 0 0 = (o + 98) := by rw [em97]; exact aln_nxo hm96 ho (by decide) rfl
  have obm97 : OB m97 o 11 := by rw [em97]; exact aln_ob obm96 (o_lt0 hm96 (by decide))
  refine cpA F fz_X11_1057 (fun _ => hnm) dX11_init_811 obm97 rfl rfl ?_
  obtain ⟨d98, ed98⟩ : ∃ z, z = st d97 o 139 (o + 97) := ⟨_, rfl⟩
  refine v_nD ed98 ?_
  refine v_aload_n F dX11_init_814 rfl rfl ?_
  refine v_bipush F dX11_init_815 rfl ⟨by decide, by decide⟩ ?_
  refine v_newa (t := 101) (ty := .int) F dX11_init_817 rfl rfl ⟨by decide, by decide⟩ rfl (fun _ _ => rfl) rfl q348 ⟨by decide, by decide⟩ (by decide) (fun _ _ => trivial) (Nat.le_of_ble_eq_true rfl) (ks' := 76588) rfl (Nat.le_of_ble_eq_true rfl) hm97 ?_
  obtain ⟨m98, em98⟩ : ∃ z, z = aln m97 ((101 : Nat) : Int) 9 := ⟨_, rfl⟩
  refine v_nM em98 ?_
  have hm98 : m98 0 0 = (o + 99) := by rw [em98]; exact aln_nxo hm97 ho (by decide) rfl
  have obm98 : OB m98 o 11 := by rw [em98]; exact aln_ob obm97 (o_lt0 hm97 (by decide))
  refine cpA F fz_X11_1063 (fun _ => hnm) dX11_init_819 obm98 rfl rfl ?_
  obtain ⟨d99, ed99⟩ : ∃ z, z = st d98 o 140 (o + 98) := ⟨_, rfl⟩
  refine v_nD ed99 ?_
  refine v_aload_n F dX11_init_822 rfl rfl ?_
  refine v_bipush F dX11_init_823 rfl ⟨by decide, by decide⟩ ?_
  refine v_newa (t := 101) (ty := .int) F dX11_init_825 rfl rfl ⟨by decide, by decide⟩ rfl (fun _ _ => rfl) rfl q348 ⟨by decide, by decide⟩ (by decide) (fun _ _ => trivial) (Nat.le_of_ble_eq_true rfl) (ks' := 76597) rfl (Nat.le_of_ble_eq_true rfl) hm98 ?_
  obtain ⟨m99, em99⟩ : ∃ z, z = aln m98 ((101 : Nat) : Int) 9 := ⟨_, rfl⟩
  refine v_nM em99 ?_
  have hm99 : m99 0 0 = (o + 100) := by rw [em99]; exact aln_nxo hm98 ho (by decide) rfl
  have obm99 : OB m99 o 11 := by rw [em99]; exact aln_ob obm98 (o_lt0 hm98 (by decide))
  refine cpA F fz_X11_1060 (fun _ => hnm) dX11_init_827 obm99 rfl rfl ?_
  obtain ⟨d100, ed100⟩ : ∃ z, z = st d99 o 141 (o + 99) := ⟨_, rfl⟩
  refine v_nD ed100 ?_
  refine v_aload_n F dX11_init_830 rfl rfl ?_
  refine v_bipush F dX11_init_831 rfl ⟨by decide, by decide⟩ ?_
  refine v_newa (t := 103) (ty := .boolean) F dX11_init_833 rfl rfl ⟨by decide, by decide⟩ rfl (fun _ _ => rfl) rfl q533 ⟨by decide, by decide⟩ (by decide) (fun _ _ => trivial) (Nat.le_of_ble_eq_true rfl) (ks' := 76606) rfl (Nat.le_of_ble_eq_true rfl) hm99 ?_
  obtain ⟨m100, em100⟩ : ∃ z, z = aln m99 ((103 : Nat) : Int) 9 := ⟨_, rfl⟩
  refine v_nM em100 ?_
  have hm100 : m100 0 0 = (o + 101) := by rw [em100]; exact aln_nxo hm99 ho (by decide) rfl
  have obm100 : OB m100 o 11 := by rw [em100]; exact aln_ob obm99 (o_lt0 hm99 (by decide))
  refine cpA F fz_X11_1072 (fun _ => hnm) dX11_init_835 obm100 rfl rfl ?_
  obtain ⟨d101, ed101⟩ : ∃ z, z = st d100 o 142 (o + 100) := ⟨_, rfl⟩
  refine v_nD ed101 ?_
  refine v_aload_n F dX11_init_838 rfl rfl ?_
  refine v_bipush F dX11_init_839 rfl ⟨by decide, by decide⟩ ?_
  refine v_newa (t := 101) (ty := .int) F dX11_init_841 rfl rfl ⟨by decide, by decide⟩ rfl (fun _ _ => rfl) rfl q348 ⟨by decide, by decide⟩ (by decide) (fun _ _ => trivial) (Nat.le_of_ble_eq_true rfl) (ks' := 76615) rfl (Nat.le_of_ble_eq_true rfl) hm100 ?_
  obtain ⟨m101, em101⟩ : ∃ z, z = aln m100 ((101 : Nat) : Int) 9 := ⟨_, rfl⟩
  refine v_nM em101 ?_
  have hm101 : m101 0 0 = (o + 102) := by rw [em101]; exact aln_nxo hm100 ho (by decide) rfl
  have obm101 : OB m101 o 11 := by rw [em101]; exact aln_ob obm100 (o_lt0 hm100 (by decide))
  refine cpA F fz_X11_1075 (fun _ => hnm) dX11_init_843 obm101 rfl rfl ?_
  obtain ⟨d102, ed102⟩ : ∃ z, z = st d101 o 143 (o + 101) := ⟨_, rfl⟩
  refine v_nD ed102 ?_
  refine v_aload_n F dX11_init_846 rfl rfl ?_
  refine v_bipush F dX11_init_847 rfl ⟨by decide, by decide⟩ ?_
  refine v_newa (t := 101) (ty := .int) F dX11_init_849 rfl rfl ⟨by decide, by decide⟩ rfl (fun _ _ => rfl) rfl q348 ⟨by decide, by decide⟩ (by decide) (fun _ _ => trivial) (Nat.le_of_ble_eq_true rfl) (ks' := 76624) rfl (Nat.le_of_ble_eq_true rfl) hm101 ?_
  obtain ⟨m102, em102⟩ : ∃ z, z = aln m101 ((101 : Nat) : Int) 9 := ⟨_, rfl⟩
  refine v_nM em102 ?_
  have hm102 : m102 0 0 = (o + 103) := by rw [em102]; exact aln_nxo hm101 ho (by decide) rfl
  have obm102 : OB m102 o 11 := by rw [em102]; exact aln_ob obm101 (o_lt0 hm101 (by decide))
  refine cpA F fz_X11_1091 (fun _ => hnm) dX11_init_851 obm102 rfl rfl ?_
  obtain ⟨d103, ed103⟩ : ∃ z, z = st d102 o 144 (o + 102) := ⟨_, rfl⟩
  refine v_nD ed103 ?_
  refine v_aload_n F dX11_init_854 rfl rfl ?_
  refine v_bipush F dX11_init_855 rfl ⟨by decide, by decide⟩ ?_
  refine v_newa (t := 101) (ty := .int) F dX11_init_857 rfl rfl ⟨by decide, by decide⟩ rfl (fun _ _ => rfl) rfl q348 ⟨by decide, by decide⟩ (by decide) (fun _ _ => trivial) (Nat.le_of_ble_eq_true rfl) (ks' := 76633) rfl (Nat.le_of_ble_eq_true rfl) hm102 ?_
  obtain ⟨m103, em103⟩ : ∃ z, z = aln m102 ((101 : Nat) : Int) 9 := ⟨_, rfl⟩
  refine v_nM em103 ?_
  have hm103 : m103 0 0 = (o + 104) := by rw [em103]; exact aln_nxo hm102 ho (by decide) rfl
  have obm103 : OB m103 o 11 := by rw [em103]; exact aln_ob obm102 (o_lt0 hm102 (by decide))
  refine cpA F fz_X11_1106 (fun _ => hnm) dX11_init_859 obm103 rfl rfl ?_
  obtain ⟨d104, ed104⟩ : ∃ z, z = st d103 o 145 (o + 103) := ⟨_, rfl⟩
  refine v_nD ed104 ?_
  refine v_aload_n F dX11_init_862 rfl rfl ?_
  refine v_bipush F dX11_init_863 rfl ⟨by decide, by decide⟩ ?_
  refine v_newa (t := 101) (ty := .int) F dX11_init_865 rfl rfl ⟨by decide, by decide⟩ rfl (fun _ _ => rfl) rfl q348 ⟨by decide, by decide⟩ (by decide) (fun _ _ => trivial) (Nat.le_of_ble_eq_true rfl) (ks' := 76642) rfl (Nat.le_of_ble_eq_true rfl) hm103 ?_
  obtain ⟨m104, em104⟩ : ∃ z, z = aln m103 ((101 : Nat) : Int) 9 := ⟨_, rfl⟩
  refine v_nM em104 ?_
  have hm104 : m104 0 0 = (o + 105) := by rw [em104]; exact aln_nxo hm103 ho (by decide) rfl
  have obm104 : OB m104 o 11 := by rw [em104]; exact aln_ob obm103 (o_lt0 hm103 (by decide))
  refine cpA F fz_X11_1066 (fun _ => hnm) dX11_init_867 obm104 rfl rfl ?_
  obtain ⟨d105, ed105⟩ : ∃ z, z = st d104 o 146 (o + 104) := ⟨_, rfl⟩
  refine v_nD ed105 ?_
  refine v_aload_n F dX11_init_870 rfl rfl ?_
  refine v_bipush F dX11_init_871 rfl ⟨by decide, by decide⟩ ?_
  refine v_newa (t := 101) (ty := .int) F dX11_init_873 rfl rfl ⟨by decide, by decide⟩ rfl (fun _ _ => rfl) rfl q348 ⟨by decide, by decide⟩ (by decide) (fun _ _ => trivial) (Nat.le_of_ble_eq_true rfl) (ks' := 76651) rfl (Nat.le_of_ble_eq_true rfl) hm104 ?_
  obtain ⟨m105, em105⟩ : ∃ z, z = aln m104 ((101 : Nat) : Int) 9 := ⟨_, rfl⟩
  refine v_nM em105 ?_
  have hm105 : m105 0 0 = (o + 106) := by rw [em105]; exact aln_nxo hm104 ho (by decide) rfl
  have obm105 : OB m105 o 11 := by rw [em105]; exact aln_ob obm104 (o_lt0 hm104 (by decide))
  refine cpA F fz_X11_1097 (fun _ => hnm) dX11_init_875 obm105 rfl rfl ?_
  obtain ⟨d106, ed106⟩ : ∃ z, z = st d105 o 147 (o + 105) := ⟨_, rfl⟩
  refine v_nD ed106 ?_
  refine v_aload_n F dX11_init_878 rfl rfl ?_
  refine v_bipush F dX11_init_879 rfl ⟨by decide, by decide⟩ ?_
  refine v_newa (t := 101) (ty := .int) F dX11_init_881 rfl rfl ⟨by decide, by decide⟩ rfl (fun _ _ => rfl) rfl q348 ⟨by decide, by decide⟩ (by decide) (fun _ _ => trivial) (Nat.le_of_ble_eq_true rfl) (ks' := 76659) rfl (Nat.le_of_ble_eq_true rfl) hm105 ?_
  obtain ⟨m106, em106⟩ : ∃ z, z = aln m105 ((101 : Nat) : Int) 8 := ⟨_, rfl⟩
  refine v_nM em106 ?_
  have hm106 : m106 0 0 = (o + 107) := by rw [em106]; exact aln_nxo hm105 ho (by decide) rfl
  have obm106 : OB m106 o 11 := by rw [em106]; exact aln_ob obm105 (o_lt0 hm105 (by decide))
  refine cpA F fz_X11_1045 (fun _ => hnm) dX11_init_883 obm106 rfl rfl ?_
  obtain ⟨d107, ed107⟩ : ∃ z, z = st d106 o 149 (o + 106) := ⟨_, rfl⟩
  refine v_nD ed107 ?_
  refine v_aload_n F dX11_init_886 rfl rfl ?_
  refine v_bipush F dX11_init_887 rfl ⟨by decide, by decide⟩ ?_
  refine v_newa (t := 103) (ty := .boolean) F dX11_init_889 rfl rfl ⟨by decide, by decide⟩ rfl (fun _ _ => rfl) rfl q533 ⟨by decide, by decide⟩ (by decide) (fun _ _ => trivial) (Nat.le_of_ble_eq_true rfl) (ks' := 76719) rfl (Nat.le_of_ble_eq_true rfl) hm106 ?_
  obtain ⟨m107, em107⟩ : ∃ z, z = aln m106 ((103 : Nat) : Int) 60 := ⟨_, rfl⟩
  refine v_nM em107 ?_
  have hm107 : m107 0 0 = (o + 108) := by rw [em107]; exact aln_nxo hm106 ho (by decide) rfl
  have obm107 : OB m107 o 11 := by rw [em107]; exact aln_ob obm106 (o_lt0 hm106 (by decide))
  refine cpA F fz_X11_1048 (fun _ => hnm) dX11_init_891 obm107 rfl rfl ?_
  obtain ⟨d108, ed108⟩ : ∃ z, z = st d107 o 150 (o + 107) := ⟨_, rfl⟩
  refine v_nD ed108 ?_
  refine v_aload_n F dX11_init_894 rfl rfl ?_
  refine v_sipush F dX11_init_895 rfl ⟨by decide, by decide⟩ ?_
  refine v_newa (t := 104) (ty := .long) F dX11_init_898 rfl rfl ⟨by decide, by decide⟩ rfl (fun _ _ => rfl) rfl q898 ⟨by decide, by decide⟩ (by decide) (fun _ _ => trivial) (Nat.le_of_ble_eq_true rfl) (ks' := 80440) rfl (Nat.le_of_ble_eq_true rfl) hm107 ?_
  obtain ⟨m108, em108⟩ : ∃ z, z = aln m107 ((104 : Nat) : Int) 3721 := ⟨_, rfl⟩
  refine v_nM em108 ?_
  have hm108 : m108 0 0 = (o + 109) := by rw [em108]; exact aln_nxo hm107 ho (by decide) rfl
  have obm108 : OB m108 o 11 := by rw [em108]; exact aln_ob obm107 (o_lt0 hm107 (by decide))
  refine cpA F fz_X11_1123 (fun _ => hnm) dX11_init_900 obm108 rfl rfl ?_
  obtain ⟨d109, ed109⟩ : ∃ z, z = st d108 o 151 (o + 108) := ⟨_, rfl⟩
  refine v_nD ed109 ?_
  refine v_aload_n F dX11_init_903 rfl rfl ?_
  refine v_sipush F dX11_init_904 rfl ⟨by decide, by decide⟩ ?_
  refine v_newa (t := 101) (ty := .int) F dX11_init_907 rfl rfl ⟨by decide, by decide⟩ rfl (fun _ _ => rfl) rfl q348 ⟨by decide, by decide⟩ (by decide) (fun _ _ => trivial) (Nat.le_of_ble_eq_true rfl) (ks' := 80640) rfl (Nat.le_of_ble_eq_true rfl) hm108 ?_
  obtain ⟨m109, em109⟩ : ∃ z, z = aln m108 ((101 : Nat) : Int) 200 := ⟨_, rfl⟩
  refine v_nM em109 ?_
  have hm109 : m109 0 0 = (o + 110) := by rw [em109]; exact aln_nxo hm108 ho (by decide) rfl
  have obm109 : OB m109 o 11 := by rw [em109]; exact aln_ob obm108 (o_lt0 hm108 (by decide))
  refine cpA F fz_X11_1126 (fun _ => hnm) dX11_init_909 obm109 rfl rfl ?_
  obtain ⟨d110, ed110⟩ : ∃ z, z = st d109 o 154 (o + 109) := ⟨_, rfl⟩
  refine v_nD ed110 ?_
  refine v_aload_n F dX11_init_912 rfl rfl ?_
  refine v_sipush F dX11_init_913 rfl ⟨by decide, by decide⟩ ?_
  refine v_newa (t := 101) (ty := .int) F dX11_init_916 rfl rfl ⟨by decide, by decide⟩ rfl (fun _ _ => rfl) rfl q348 ⟨by decide, by decide⟩ (by decide) (fun _ _ => trivial) (Nat.le_of_ble_eq_true rfl) (ks' := 80840) rfl (Nat.le_of_ble_eq_true rfl) hm109 ?_
  obtain ⟨m110, em110⟩ : ∃ z, z = aln m109 ((101 : Nat) : Int) 200 := ⟨_, rfl⟩
  refine v_nM em110 ?_
  have hm110 : m110 0 0 = (o + 111) := by rw [em110]; exact aln_nxo hm109 ho (by decide) rfl
  have obm110 : OB m110 o 11 := by rw [em110]; exact aln_ob obm109 (o_lt0 hm109 (by decide))
  refine cpA F fz_X11_1129 (fun _ => hnm) dX11_init_918 obm110 rfl rfl ?_
  obtain ⟨d111, ed111⟩ : ∃ z, z = st d110 o 155 (o + 110) := ⟨_, rfl⟩
  refine v_nD ed111 ?_
  refine v_aload_n F dX11_init_921 rfl rfl ?_
  refine v_sipush F dX11_init_922 rfl ⟨by decide, by decide⟩ ?_
  refine v_newa (t := 103) (ty := .boolean) F dX11_init_925 rfl rfl ⟨by decide, by decide⟩ rfl (fun _ _ => rfl) rfl q533 ⟨by decide, by decide⟩ (by decide) (fun _ _ => trivial) (Nat.le_of_ble_eq_true rfl) (ks' := 81040) rfl (Nat.le_of_ble_eq_true rfl) hm110 ?_
  obtain ⟨m111, em111⟩ : ∃ z, z = aln m110 ((103 : Nat) : Int) 200 := ⟨_, rfl⟩
  refine v_nM em111 ?_
  have hm111 : m111 0 0 = (o + 112) := by rw [em111]; exact aln_nxo hm110 ho (by decide) rfl
  have obm111 : OB m111 o 11 := by rw [em111]; exact aln_ob obm110 (o_lt0 hm110 (by decide))
  refine cpA F fz_X11_1132 (fun _ => hnm) dX11_init_927 obm111 rfl rfl ?_
  obtain ⟨d112, ed112⟩ : ∃ z, z = st d111 o 156 (o + 111) := ⟨_, rfl⟩
  refine v_nD ed112 ?_
  refine v_aload_n F dX11_init_930 rfl rfl ?_
  refine v_sipush F dX11_init_931 rfl ⟨by decide, by decide⟩ ?_
  refine v_newa (t := 101) (ty := .int) F dX11_init_934 rfl rfl ⟨by decide, by decide⟩ rfl (fun _ _ => rfl) rfl q348 ⟨by decide, by decide⟩ (by decide) (fun _ _ => trivial) (Nat.le_of_ble_eq_true rfl) (ks' := 81240) rfl (Nat.le_of_ble_eq_true rfl) hm111 ?_
  obtain ⟨m112, em112⟩ : ∃ z, z = aln m111 ((101 : Nat) : Int) 200 := ⟨_, rfl⟩
  refine v_nM em112 ?_
  have hm112 : m112 0 0 = (o + 113) := by rw [em112]; exact aln_nxo hm111 ho (by decide) rfl
  have obm112 : OB m112 o 11 := by rw [em112]; exact aln_ob obm111 (o_lt0 hm111 (by decide))
  refine cpA F fz_X11_1135 (fun _ => hnm) dX11_init_936 obm112 rfl rfl ?_
  obtain ⟨d113, ed113⟩ : ∃ z, z = st d112 o 162 (o + 112) := ⟨_, rfl⟩
  refine v_nD ed113 ?_
  refine v_aload_n F dX11_init_939 rfl rfl ?_
  refine v_sipush F dX11_init_940 rfl ⟨by decide, by decide⟩ ?_
  refine v_newa (t := 101) (ty := .int) F dX11_init_943 rfl rfl ⟨by decide, by decide⟩ rfl (fun _ _ => rfl) rfl q348 ⟨by decide, by decide⟩ (by decide) (fun _ _ => trivial) (Nat.le_of_ble_eq_true rfl) (ks' := 81440) rfl (Nat.le_of_ble_eq_true rfl) hm112 ?_
  obtain ⟨m113, em113⟩ : ∃ z, z = aln m112 ((101 : Nat) : Int) 200 := ⟨_, rfl⟩
  refine v_nM em113 ?_
  have hm113 : m113 0 0 = (o + 114) := by rw [em113]; exact aln_nxo hm112 ho (by decide) rfl
  have obm113 : OB m113 o 11 := by rw [em113]; exact aln_ob obm112 (o_lt0 hm112 (by decide))
  refine cpA F fz_X11_1138 (fun _ => hnm) dX11_init_945 obm113 rfl rfl ?_
  obtain ⟨d114, ed114⟩ : ∃ z, z = st d113 o 163 (o + 113) := ⟨_, rfl⟩
  refine v_nD ed114 ?_
  refine v_aload_n F dX11_init_948 rfl rfl ?_
  refine v_bipush F dX11_init_949 rfl ⟨by decide, by decide⟩ ?_
  refine v_newa (t := 102) (ty := .byte) F dX11_init_951 rfl rfl ⟨by decide, by decide⟩ rfl (fun _ _ => rfl) rfl q347 ⟨by decide, by decide⟩ (by decide) (fun _ _ => trivial) (Nat.le_of_ble_eq_true rfl) (ks' := 81472) rfl (Nat.le_of_ble_eq_true rfl) hm113 ?_
  obtain ⟨m114, em114⟩ : ∃ z, z = aln m113 ((102 : Nat) : Int) 32 := ⟨_, rfl⟩
  refine v_nM em114 ?_
  have hm114 : m114 0 0 = (o + 115) := by rw [em114]; exact aln_nxo hm113 ho (by decide) rfl
  have obm114 : OB m114 o 11 := by rw [em114]; exact aln_ob obm113 (o_lt0 hm113 (by decide))
  refine cpA F fz_X11_1141 (fun _ => hnm) dX11_init_953 obm114 rfl rfl ?_
  obtain ⟨d115, ed115⟩ : ∃ z, z = st d114 o 164 (o + 114) := ⟨_, rfl⟩
  refine v_nD ed115 ?_
  refine v_aload_n F dX11_init_956 rfl rfl ?_
  refine v_bipush F dX11_init_957 rfl ⟨by decide, by decide⟩ ?_
  refine v_newa (t := 102) (ty := .byte) F dX11_init_959 rfl rfl ⟨by decide, by decide⟩ rfl (fun _ _ => rfl) rfl q347 ⟨by decide, by decide⟩ (by decide) (fun _ _ => trivial) (Nat.le_of_ble_eq_true rfl) (ks' := 81536) rfl (Nat.le_of_ble_eq_true rfl) hm114 ?_
  obtain ⟨m115, em115⟩ : ∃ z, z = aln m114 ((102 : Nat) : Int) 64 := ⟨_, rfl⟩
  refine v_nM em115 ?_
  have hm115 : m115 0 0 = (o + 116) := by rw [em115]; exact aln_nxo hm114 ho (by decide) rfl
  have obm115 : OB m115 o 11 := by rw [em115]; exact aln_ob obm114 (o_lt0 hm114 (by decide))
  refine cpA F fz_X11_1144 (fun _ => hnm) dX11_init_961 obm115 rfl rfl ?_
  obtain ⟨d116, ed116⟩ : ∃ z, z = st d115 o 166 (o + 115) := ⟨_, rfl⟩
  refine v_nD ed116 ?_
  refine v_aload_n F dX11_init_964 rfl rfl ?_
  refine v_bipush F dX11_init_965 rfl ⟨by decide, by decide⟩ ?_
  refine v_newa (t := 101) (ty := .int) F dX11_init_967 rfl rfl ⟨by decide, by decide⟩ rfl (fun _ _ => rfl) rfl q348 ⟨by decide, by decide⟩ (by decide) (fun _ _ => trivial) (Nat.le_of_ble_eq_true rfl) (ks' := 81600) rfl (Nat.le_of_ble_eq_true rfl) hm115 ?_
  obtain ⟨m116, em116⟩ : ∃ z, z = aln m115 ((101 : Nat) : Int) 64 := ⟨_, rfl⟩
  refine v_nM em116 ?_
  have hm116 : m116 0 0 = (o + 117) := by rw [em116]; exact aln_nxo hm115 ho (by decide) rfl
  have obm116 : OB m116 o 11 := by rw [em116]; exact aln_ob obm115 (o_lt0 hm115 (by decide))
  refine cpA F fz_X11_1147 (fun _ => hnm) dX11_init_969 obm116 rfl rfl ?_
  obtain ⟨d117, ed117⟩ : ∃ z, z = st d116 o 167 (o + 116) := ⟨_, rfl⟩
  refine v_nD ed117 ?_
  refine v_aload_n F dX11_init_972 rfl rfl ?_
  refine v_bipush F dX11_init_973 rfl ⟨by decide, by decide⟩ ?_
  refine v_newa (t := 101) (ty := .int) F dX11_init_975 rfl rfl ⟨by decide, by decide⟩ rfl (fun _ _ => rfl) rfl q348 ⟨by decide, by decide⟩ (by decide) (fun _ _ => trivial) (Nat.le_of_ble_eq_true rfl) (ks' := 81608) rfl (Nat.le_of_ble_eq_true rfl) hm116 ?_
  obtain ⟨m117, em117⟩ : ∃ z, z = aln m116 ((101 : Nat) : Int) 8 := ⟨_, rfl⟩
  refine v_nM em117 ?_
  have hm117 : m117 0 0 = (o + 118) := by rw [em117]; exact aln_nxo hm116 ho (by decide) rfl
  have obm117 : OB m117 o 11 := by rw [em117]; exact aln_ob obm116 (o_lt0 hm116 (by decide))
  refine cpA F fz_X11_1150 (fun _ => hnm) dX11_init_977 obm117 rfl rfl ?_
  obtain ⟨d118, ed118⟩ : ∃ z, z = st d117 o 168 (o + 117) := ⟨_, rfl⟩
  refine v_nD ed118 ?_
  refine v_aload_n F dX11_init_980 rfl rfl ?_
  refine v_bipush F dX11_init_981 rfl ⟨by decide, by decide⟩ ?_
  refine v_newa (t := 101) (ty := .int) F dX11_init_983 rfl rfl ⟨by decide, by decide⟩ rfl (fun _ _ => rfl) rfl q348 ⟨by decide, by decide⟩ (by decide) (fun _ _ => trivial) (Nat.le_of_ble_eq_true rfl) (ks' := 81616) rfl (Nat.le_of_ble_eq_true rfl) hm117 ?_
  obtain ⟨m118, em118⟩ : ∃ z, z = aln m117 ((101 : Nat) : Int) 8 := ⟨_, rfl⟩
  refine v_nM em118 ?_
  have hm118 : m118 0 0 = (o + 119) := by rw [em118]; exact aln_nxo hm117 ho (by decide) rfl
  have obm118 : OB m118 o 11 := by rw [em118]; exact aln_ob obm117 (o_lt0 hm117 (by decide))
  refine cpA F fz_X11_1153 (fun _ => hnm) dX11_init_985 obm118 rfl rfl ?_
  obtain ⟨d119, ed119⟩ : ∃ z, z = st d118 o 169 (o + 118) := ⟨_, rfl⟩
  refine v_nD ed119 ?_
  refine v_aload_n F dX11_init_988 rfl rfl ?_
  refine v_bipush F dX11_init_989 rfl ⟨by decide, by decide⟩ ?_
  refine v_newa (t := 101) (ty := .int) F dX11_init_991 rfl rfl ⟨by decide, by decide⟩ rfl (fun _ _ => rfl) rfl q348 ⟨by decide, by decide⟩ (by decide) (fun _ _ => trivial) (Nat.le_of_ble_eq_true rfl) (ks' := 81680) rfl (Nat.le_of_ble_eq_true rfl) hm118 ?_
  obtain ⟨m119, em119⟩ : ∃ z, z = aln m118 ((101 : Nat) : Int) 64 := ⟨_, rfl⟩
  refine v_nM em119 ?_
  have hm119 : m119 0 0 = (o + 120) := by rw [em119]; exact aln_nxo hm118 ho (by decide) rfl
  have obm119 : OB m119 o 11 := by rw [em119]; exact aln_ob obm118 (o_lt0 hm118 (by decide))
  have ar119m119 : AR m119 (o + 119) 101 64 := ⟨o_pos ho (by decide), by rw [em119, ← hm118]; exact aln_1, by rw [em119, ← hm118]; exact aln_2⟩
  refine v_dup_A F dX11_init_993 ?_
  refine v_iconst F dX11_init_994 ⟨by decide, by decide⟩ ?_
  refine v_ldcw (n := 1116352408) F dX11_init_995 q3273 rfl ⟨by decide, by decide⟩ ?_
  refine v_iast0 F dX11_init_998 ar119m119 ⟨by decide, by decide⟩ (fun _ _ => trivial) ?_
  obtain ⟨d120, ed120⟩ : ∃ z, z = st d119 (o + 119) 0 1116352408 := ⟨_, rfl⟩
  refine v_nD ed120 ?_
  refine v_dup_A F dX11_init_999 ?_
  refine v_iconst F dX11_init_1000 ⟨by decide, by decide⟩ ?_
  refine v_ldcw (n := 1899447441) F dX11_init_1001 q3274 rfl ⟨by decide, by decide⟩ ?_
  refine v_iast0 F dX11_init_1004 ar119m119 ⟨by decide, by decide⟩ (fun _ _ => trivial) ?_
  obtain ⟨d121, ed121⟩ : ∃ z, z = st d120 (o + 119) 1 1899447441 := ⟨_, rfl⟩
  refine v_nD ed121 ?_
  refine v_dup_A F dX11_init_1005 ?_
  refine v_iconst F dX11_init_1006 ⟨by decide, by decide⟩ ?_
  refine v_ldcw (n := (-1245643825)) F dX11_init_1007 q3275 rfl ⟨by decide, by decide⟩ ?_
  refine v_iast0 F dX11_init_1010 ar119m119 ⟨by decide, by decide⟩ (fun _ _ => trivial) ?_
  obtain ⟨d122, ed122⟩ : ∃ z, z = st d121 (o + 119) 2 (-1245643825) := ⟨_, rfl⟩
  refine v_nD ed122 ?_
  refine v_dup_A F dX11_init_1011 ?_
  refine v_iconst F dX11_init_1012 ⟨by decide, by decide⟩ ?_
  refine v_ldcw (n := (-373957723)) F dX11_init_1013 q3276 rfl ⟨by decide, by decide⟩ ?_
  refine v_iast0 F dX11_init_1016 ar119m119 ⟨by decide, by decide⟩ (fun _ _ => trivial) ?_
  obtain ⟨d123, ed123⟩ : ∃ z, z = st d122 (o + 119) 3 (-373957723) := ⟨_, rfl⟩
  refine v_nD ed123 ?_
  refine v_dup_A F dX11_init_1017 ?_
  refine v_iconst F dX11_init_1018 ⟨by decide, by decide⟩ ?_
  refine v_ldcw (n := 961987163) F dX11_init_1019 q3277 rfl ⟨by decide, by decide⟩ ?_
  refine v_iast0 F dX11_init_1022 ar119m119 ⟨by decide, by decide⟩ (fun _ _ => trivial) ?_
  obtain ⟨d124, ed124⟩ : ∃ z, z = st d123 (o + 119) 4 961987163 := ⟨_, rfl⟩
  refine v_nD ed124 ?_
  refine v_dup_A F dX11_init_1023 ?_
  refine v_iconst F dX11_init_1024 ⟨by decide, by decide⟩ ?_
  refine v_ldcw (n := 1508970993) F dX11_init_1025 q3278 rfl ⟨by decide, by decide⟩ ?_
  refine v_iast0 F dX11_init_1028 ar119m119 ⟨by decide, by decide⟩ (fun _ _ => trivial) ?_
  obtain ⟨d125, ed125⟩ : ∃ z, z = st d124 (o + 119) 5 1508970993 := ⟨_, rfl⟩
  refine v_nD ed125 ?_
  refine v_dup_A F dX11_init_1029 ?_
  refine v_bipush F dX11_init_1030 rfl ⟨by decide, by decide⟩ ?_
  refine v_ldcw (n := (-1841331548)) F dX11_init_1032 q3279 rfl ⟨by decide, by decide⟩ ?_
  refine v_iast0 F dX11_init_1035 ar119m119 ⟨by decide, by decide⟩ (fun _ _ => trivial) ?_
  obtain ⟨d126, ed126⟩ : ∃ z, z = st d125 (o + 119) 6 (-1841331548) := ⟨_, rfl⟩
  refine v_nD ed126 ?_
  refine v_dup_A F dX11_init_1036 ?_
  refine v_bipush F dX11_init_1037 rfl ⟨by decide, by decide⟩ ?_
  refine v_ldcw (n := (-1424204075)) F dX11_init_1039 q3280 rfl ⟨by decide, by decide⟩ ?_
  refine v_iast0 F dX11_init_1042 ar119m119 ⟨by decide, by decide⟩ (fun _ _ => trivial) ?_
  obtain ⟨d127, ed127⟩ : ∃ z, z = st d126 (o + 119) 7 (-1424204075) := ⟨_, rfl⟩
  refine v_nD ed127 ?_
  refine v_dup_A F dX11_init_1043 ?_
  refine v_bipush F dX11_init_1044 rfl ⟨by decide, by decide⟩ ?_
  refine v_ldcw (n := (-670586216)) F dX11_init_1046 q3281 rfl ⟨by decide, by decide⟩ ?_
  refine v_iast0 F dX11_init_1049 ar119m119 ⟨by decide, by decide⟩ (fun _ _ => trivial) ?_
  obtain ⟨d128, ed128⟩ : ∃ z, z = st d127 (o + 119) 8 (-670586216) := ⟨_, rfl⟩
  refine v_nD ed128 ?_
  refine v_dup_A F dX11_init_1050 ?_
  refine v_bipush F dX11_init_1051 rfl ⟨by decide, by decide⟩ ?_
  refine v_ldcw (n := 310598401) F dX11_init_1053 q3282 rfl ⟨by decide, by decide⟩ ?_
  refine v_iast0 F dX11_init_1056 ar119m119 ⟨by decide, by decide⟩ (fun _ _ => trivial) ?_
  obtain ⟨d129, ed129⟩ : ∃ z, z = st d128 (o + 119) 9 310598401 := ⟨_, rfl⟩
  refine v_nD ed129 ?_
  refine v_dup_A F dX11_init_1057 ?_
  refine v_bipush F dX11_init_1058 rfl ⟨by decide, by decide⟩ ?_
  refine v_ldcw (n := 607225278) F dX11_init_1060 q3283 rfl ⟨by decide, by decide⟩ ?_
  refine v_iast0 F dX11_init_1063 ar119m119 ⟨by decide, by decide⟩ (fun _ _ => trivial) ?_
  obtain ⟨d130, ed130⟩ : ∃ z, z = st d129 (o + 119) 10 607225278 := ⟨_, rfl⟩
  refine v_nD ed130 ?_
  refine v_dup_A F dX11_init_1064 ?_
  refine v_bipush F dX11_init_1065 rfl ⟨by decide, by decide⟩ ?_
  refine v_ldcw (n := 1426881987) F dX11_init_1067 q3284 rfl ⟨by decide, by decide⟩ ?_
  refine v_iast0 F dX11_init_1070 ar119m119 ⟨by decide, by decide⟩ (fun _ _ => trivial) ?_
  obtain ⟨d131, ed131⟩ : ∃ z, z = st d130 (o + 119) 11 1426881987 := ⟨_, rfl⟩
  refine v_nD ed131 ?_
  refine v_dup_A F dX11_init_1071 ?_
  refine v_bipush F dX11_init_1072 rfl ⟨by decide, by decide⟩ ?_
  refine v_ldcw (n := 1925078388) F dX11_init_1074 q3285 rfl ⟨by decide, by decide⟩ ?_
  refine v_iast0 F dX11_init_1077 ar119m119 ⟨by decide, by decide⟩ (fun _ _ => trivial) ?_
  obtain ⟨d132, ed132⟩ : ∃ z, z = st d131 (o + 119) 12 1925078388 := ⟨_, rfl⟩
  refine v_nD ed132 ?_
  refine v_dup_A F dX11_init_1078 ?_
  refine v_bipush F dX11_init_1079 rfl ⟨by decide, by decide⟩ ?_
  refine v_ldcw (n := (-2132889090)) F dX11_init_1081 q3286 rfl ⟨by decide, by decide⟩ ?_
  refine v_iast0 F dX11_init_1084 ar119m119 ⟨by decide, by decide⟩ (fun _ _ => trivial) ?_
  obtain ⟨d133, ed133⟩ : ∃ z, z = st d132 (o + 119) 13 (-2132889090) := ⟨_, rfl⟩
  refine v_nD ed133 ?_
  refine v_dup_A F dX11_init_1085 ?_
  refine v_bipush F dX11_init_1086 rfl ⟨by decide, by decide⟩ ?_
  refine v_ldcw (n := (-1680079193)) F dX11_init_1088 q3287 rfl ⟨by decide, by decide⟩ ?_
  refine v_iast0 F dX11_init_1091 ar119m119 ⟨by decide, by decide⟩ (fun _ _ => trivial) ?_
  obtain ⟨d134, ed134⟩ : ∃ z, z = st d133 (o + 119) 14 (-1680079193) := ⟨_, rfl⟩
  refine v_nD ed134 ?_
  refine v_dup_A F dX11_init_1092 ?_
  refine v_bipush F dX11_init_1093 rfl ⟨by decide, by decide⟩ ?_
  refine v_ldcw (n := (-1046744716)) F dX11_init_1095 q3288 rfl ⟨by decide, by decide⟩ ?_
  refine v_iast0 F dX11_init_1098 ar119m119 ⟨by decide, by decide⟩ (fun _ _ => trivial) ?_
  obtain ⟨d135, ed135⟩ : ∃ z, z = st d134 (o + 119) 15 (-1046744716) := ⟨_, rfl⟩
  refine v_nD ed135 ?_
  refine v_dup_A F dX11_init_1099 ?_
  refine v_bipush F dX11_init_1100 rfl ⟨by decide, by decide⟩ ?_
  refine v_ldcw (n := (-459576895)) F dX11_init_1102 q3289 rfl ⟨by decide, by decide⟩ ?_
  refine v_iast0 F dX11_init_1105 ar119m119 ⟨by decide, by decide⟩ (fun _ _ => trivial) ?_
  obtain ⟨d136, ed136⟩ : ∃ z, z = st d135 (o + 119) 16 (-459576895) := ⟨_, rfl⟩
  refine v_nD ed136 ?_
  refine v_dup_A F dX11_init_1106 ?_
  refine v_bipush F dX11_init_1107 rfl ⟨by decide, by decide⟩ ?_
  refine v_ldcw (n := (-272742522)) F dX11_init_1109 q3290 rfl ⟨by decide, by decide⟩ ?_
  refine v_iast0 F dX11_init_1112 ar119m119 ⟨by decide, by decide⟩ (fun _ _ => trivial) ?_
  obtain ⟨d137, ed137⟩ : ∃ z, z = st d136 (o + 119) 17 (-272742522) := ⟨_, rfl⟩
  refine v_nD ed137 ?_
  refine v_dup_A F dX11_init_1113 ?_
  refine v_bipush F dX11_init_1114 rfl ⟨by decide, by decide⟩ ?_
  refine v_ldcw (n := 264347078) F dX11_init_1116 q3291 rfl ⟨by decide, by decide⟩ ?_
  refine v_iast0 F dX11_init_1119 ar119m119 ⟨by decide, by decide⟩ (fun _ _ => trivial) ?_
  obtain ⟨d138, ed138⟩ : ∃ z, z = st d137 (o + 119) 18 264347078 := ⟨_, rfl⟩
  refine v_nD ed138 ?_
  refine v_dup_A F dX11_init_1120 ?_
  refine v_bipush F dX11_init_1121 rfl ⟨by decide, by decide⟩ ?_
  refine v_ldcw (n := 604807628) F dX11_init_1123 q3292 rfl ⟨by decide, by decide⟩ ?_
  refine v_iast0 F dX11_init_1126 ar119m119 ⟨by decide, by decide⟩ (fun _ _ => trivial) ?_
  obtain ⟨d139, ed139⟩ : ∃ z, z = st d138 (o + 119) 19 604807628 := ⟨_, rfl⟩
  refine v_nD ed139 ?_
  refine v_dup_A F dX11_init_1127 ?_
  refine v_bipush F dX11_init_1128 rfl ⟨by decide, by decide⟩ ?_
  refine v_ldcw (n := 770255983) F dX11_init_1130 q3293 rfl ⟨by decide, by decide⟩ ?_
  refine v_iast0 F dX11_init_1133 ar119m119 ⟨by decide, by decide⟩ (fun _ _ => trivial) ?_
  obtain ⟨d140, ed140⟩ : ∃ z, z = st d139 (o + 119) 20 770255983 := ⟨_, rfl⟩
  refine v_nD ed140 ?_
  refine v_dup_A F dX11_init_1134 ?_
  refine v_bipush F dX11_init_1135 rfl ⟨by decide, by decide⟩ ?_
  refine v_ldcw (n := 1249150122) F dX11_init_1137 q3294 rfl ⟨by decide, by decide⟩ ?_
  refine v_iast0 F dX11_init_1140 ar119m119 ⟨by decide, by decide⟩ (fun _ _ => trivial) ?_
  obtain ⟨d141, ed141⟩ : ∃ z, z = st d140 (o + 119) 21 1249150122 := ⟨_, rfl⟩
  refine v_nD ed141 ?_
  refine v_dup_A F dX11_init_1141 ?_
  refine v_bipush F dX11_init_1142 rfl ⟨by decide, by decide⟩ ?_
  refine v_ldcw (n := 1555081692) F dX11_init_1144 q3295 rfl ⟨by decide, by decide⟩ ?_
  refine v_iast0 F dX11_init_1147 ar119m119 ⟨by decide, by decide⟩ (fun _ _ => trivial) ?_
  obtain ⟨d142, ed142⟩ : ∃ z, z = st d141 (o + 119) 22 1555081692 := ⟨_, rfl⟩
  refine v_nD ed142 ?_
  refine v_dup_A F dX11_init_1148 ?_
  refine v_bipush F dX11_init_1149 rfl ⟨by decide, by decide⟩ ?_
  refine v_ldcw (n := 1996064986) F dX11_init_1151 q3296 rfl ⟨by decide, by decide⟩ ?_
  refine v_iast0 F dX11_init_1154 ar119m119 ⟨by decide, by decide⟩ (fun _ _ => trivial) ?_
  obtain ⟨d143, ed143⟩ : ∃ z, z = st d142 (o + 119) 23 1996064986 := ⟨_, rfl⟩
  refine v_nD ed143 ?_
  refine v_dup_A F dX11_init_1155 ?_
  refine v_bipush F dX11_init_1156 rfl ⟨by decide, by decide⟩ ?_
  refine v_ldcw (n := (-1740746414)) F dX11_init_1158 q3297 rfl ⟨by decide, by decide⟩ ?_
  refine v_iast0 F dX11_init_1161 ar119m119 ⟨by decide, by decide⟩ (fun _ _ => trivial) ?_
  obtain ⟨d144, ed144⟩ : ∃ z, z = st d143 (o + 119) 24 (-1740746414) := ⟨_, rfl⟩
  refine v_nD ed144 ?_
  refine v_dup_A F dX11_init_1162 ?_
  refine v_bipush F dX11_init_1163 rfl ⟨by decide, by decide⟩ ?_
  refine v_ldcw (n := (-1473132947)) F dX11_init_1165 q3298 rfl ⟨by decide, by decide⟩ ?_
  refine v_iast0 F dX11_init_1168 ar119m119 ⟨by decide, by decide⟩ (fun _ _ => trivial) ?_
  obtain ⟨d145, ed145⟩ : ∃ z, z = st d144 (o + 119) 25 (-1473132947) := ⟨_, rfl⟩
  refine v_nD ed145 ?_
  refine v_dup_A F dX11_init_1169 ?_
  refine v_bipush F dX11_init_1170 rfl ⟨by decide, by decide⟩ ?_
  refine v_ldcw (n := (-1341970488)) F dX11_init_1172 q3299 rfl ⟨by decide, by decide⟩ ?_
  refine v_iast0 F dX11_init_1175 ar119m119 ⟨by decide, by decide⟩ (fun _ _ => trivial) ?_
  obtain ⟨d146, ed146⟩ : ∃ z, z = st d145 (o + 119) 26 (-1341970488) := ⟨_, rfl⟩
  refine v_nD ed146 ?_
  refine v_dup_A F dX11_init_1176 ?_
  refine v_bipush F dX11_init_1177 rfl ⟨by decide, by decide⟩ ?_
  refine v_ldcw (n := (-1084653625)) F dX11_init_1179 q3300 rfl ⟨by decide, by decide⟩ ?_
  refine v_iast0 F dX11_init_1182 ar119m119 ⟨by decide, by decide⟩ (fun _ _ => trivial) ?_
  obtain ⟨d147, ed147⟩ : ∃ z, z = st d146 (o + 119) 27 (-1084653625) := ⟨_, rfl⟩
  refine v_nD ed147 ?_
  refine v_dup_A F dX11_init_1183 ?_
  refine v_bipush F dX11_init_1184 rfl ⟨by decide, by decide⟩ ?_
  refine v_ldcw (n := (-958395405)) F dX11_init_1186 q3301 rfl ⟨by decide, by decide⟩ ?_
  refine v_iast0 F dX11_init_1189 ar119m119 ⟨by decide, by decide⟩ (fun _ _ => trivial) ?_
  obtain ⟨d148, ed148⟩ : ∃ z, z = st d147 (o + 119) 28 (-958395405) := ⟨_, rfl⟩
  refine v_nD ed148 ?_
  refine v_dup_A F dX11_init_1190 ?_
  refine v_bipush F dX11_init_1191 rfl ⟨by decide, by decide⟩ ?_
  refine v_ldcw (n := (-710438585)) F dX11_init_1193 q3302 rfl ⟨by decide, by decide⟩ ?_
  refine v_iast0 F dX11_init_1196 ar119m119 ⟨by decide, by decide⟩ (fun _ _ => trivial) ?_
  obtain ⟨d149, ed149⟩ : ∃ z, z = st d148 (o + 119) 29 (-710438585) := ⟨_, rfl⟩
  refine v_nD ed149 ?_
  refine v_dup_A F dX11_init_1197 ?_
  refine v_bipush F dX11_init_1198 rfl ⟨by decide, by decide⟩ ?_
  refine v_ldcw (n := 113926993) F dX11_init_1200 q3303 rfl ⟨by decide, by decide⟩ ?_
  refine v_iast0 F dX11_init_1203 ar119m119 ⟨by decide, by decide⟩ (fun _ _ => trivial) ?_
  obtain ⟨d150, ed150⟩ : ∃ z, z = st d149 (o + 119) 30 113926993 := ⟨_, rfl⟩
  refine v_nD ed150 ?_
  refine v_dup_A F dX11_init_1204 ?_
  refine v_bipush F dX11_init_1205 rfl ⟨by decide, by decide⟩ ?_
  refine v_ldcw (n := 338241895) F dX11_init_1207 q3304 rfl ⟨by decide, by decide⟩ ?_
  refine v_iast0 F dX11_init_1210 ar119m119 ⟨by decide, by decide⟩ (fun _ _ => trivial) ?_
  obtain ⟨d151, ed151⟩ : ∃ z, z = st d150 (o + 119) 31 338241895 := ⟨_, rfl⟩
  refine v_nD ed151 ?_
  refine v_dup_A F dX11_init_1211 ?_
  refine v_bipush F dX11_init_1212 rfl ⟨by decide, by decide⟩ ?_
  refine v_ldcw (n := 666307205) F dX11_init_1214 q3305 rfl ⟨by decide, by decide⟩ ?_
  refine v_iast0 F dX11_init_1217 ar119m119 ⟨by decide, by decide⟩ (fun _ _ => trivial) ?_
  obtain ⟨d152, ed152⟩ : ∃ z, z = st d151 (o + 119) 32 666307205 := ⟨_, rfl⟩
  refine v_nD ed152 ?_
  refine v_dup_A F dX11_init_1218 ?_
  refine v_bipush F dX11_init_1219 rfl ⟨by decide, by decide⟩ ?_
  refine v_ldcw (n := 773529912) F dX11_init_1221 q3306 rfl ⟨by decide, by decide⟩ ?_
  refine v_iast0 F dX11_init_1224 ar119m119 ⟨by decide, by decide⟩ (fun _ _ => trivial) ?_
  obtain ⟨d153, ed153⟩ : ∃ z, z = st d152 (o + 119) 33 773529912 := ⟨_, rfl⟩
  refine v_nD ed153 ?_
  refine v_dup_A F dX11_init_1225 ?_
  refine v_bipush F dX11_init_1226 rfl ⟨by decide, by decide⟩ ?_
  refine v_ldcw (n := 1294757372) F dX11_init_1228 q3307 rfl ⟨by decide, by decide⟩ ?_
  refine v_iast0 F dX11_init_1231 ar119m119 ⟨by decide, by decide⟩ (fun _ _ => trivial) ?_
  obtain ⟨d154, ed154⟩ : ∃ z, z = st d153 (o + 119) 34 1294757372 := ⟨_, rfl⟩
  refine v_nD ed154 ?_
  refine v_dup_A F dX11_init_1232 ?_
  refine v_bipush F dX11_init_1233 rfl ⟨by decide, by decide⟩ ?_
  refine v_ldcw (n := 1396182291) F dX11_init_1235 q3308 rfl ⟨by decide, by decide⟩ ?_
  refine v_iast0 F dX11_init_1238 ar119m119 ⟨by decide, by decide⟩ (fun _ _ => trivial) ?_
  obtain ⟨d155, ed155⟩ : ∃ z, z = st d154 (o + 119) 35 1396182291 := ⟨_, rfl⟩
  refine v_nD ed155 ?_
  refine v_dup_A F dX11_init_1239 ?_
  refine v_bipush F dX11_init_1240 rfl ⟨by decide, by decide⟩ ?_
  refine v_ldcw (n := 1695183700) F dX11_init_1242 q3309 rfl ⟨by decide, by decide⟩ ?_
  refine v_iast0 F dX11_init_1245 ar119m119 ⟨by decide, by decide⟩ (fun _ _ => trivial) ?_
  obtain ⟨d156, ed156⟩ : ∃ z, z = st d155 (o + 119) 36 1695183700 := ⟨_, rfl⟩
  refine v_nD ed156 ?_
  refine v_dup_A F dX11_init_1246 ?_
  refine v_bipush F dX11_init_1247 rfl ⟨by decide, by decide⟩ ?_
  refine v_ldcw (n := 1986661051) F dX11_init_1249 q3310 rfl ⟨by decide, by decide⟩ ?_
  refine v_iast0 F dX11_init_1252 ar119m119 ⟨by decide, by decide⟩ (fun _ _ => trivial) ?_
  obtain ⟨d157, ed157⟩ : ∃ z, z = st d156 (o + 119) 37 1986661051 := ⟨_, rfl⟩
  refine v_nD ed157 ?_
  refine v_dup_A F dX11_init_1253 ?_
  refine v_bipush F dX11_init_1254 rfl ⟨by decide, by decide⟩ ?_
  refine v_ldcw (n := (-2117940946)) F dX11_init_1256 q3311 rfl ⟨by decide, by decide⟩ ?_
  refine v_iast0 F dX11_init_1259 ar119m119 ⟨by decide, by decide⟩ (fun _ _ => trivial) ?_
  obtain ⟨d158, ed158⟩ : ∃ z, z = st d157 (o + 119) 38 (-2117940946) := ⟨_, rfl⟩
  refine v_nD ed158 ?_
  refine v_dup_A F dX11_init_1260 ?_
  refine v_bipush F dX11_init_1261 rfl ⟨by decide, by decide⟩ ?_
  refine v_ldcw (n := (-1838011259)) F dX11_init_1263 q3312 rfl ⟨by decide, by decide⟩ ?_
  refine v_iast0 F dX11_init_1266 ar119m119 ⟨by decide, by decide⟩ (fun _ _ => trivial) ?_
  obtain ⟨d159, ed159⟩ : ∃ z, z = st d158 (o + 119) 39 (-1838011259) := ⟨_, rfl⟩
  refine v_nD ed159 ?_
  refine v_dup_A F dX11_init_1267 ?_
  refine v_bipush F dX11_init_1268 rfl ⟨by decide, by decide⟩ ?_
  refine v_ldcw (n := (-1564481375)) F dX11_init_1270 q3313 rfl ⟨by decide, by decide⟩ ?_
  refine v_iast0 F dX11_init_1273 ar119m119 ⟨by decide, by decide⟩ (fun _ _ => trivial) ?_
  obtain ⟨d160, ed160⟩ : ∃ z, z = st d159 (o + 119) 40 (-1564481375) := ⟨_, rfl⟩
  refine v_nD ed160 ?_
  refine v_dup_A F dX11_init_1274 ?_
  refine v_bipush F dX11_init_1275 rfl ⟨by decide, by decide⟩ ?_
  refine v_ldcw (n := (-1474664885)) F dX11_init_1277 q3314 rfl ⟨by decide, by decide⟩ ?_
  refine v_iast0 F dX11_init_1280 ar119m119 ⟨by decide, by decide⟩ (fun _ _ => trivial) ?_
  obtain ⟨d161, ed161⟩ : ∃ z, z = st d160 (o + 119) 41 (-1474664885) := ⟨_, rfl⟩
  refine v_nD ed161 ?_
  refine v_dup_A F dX11_init_1281 ?_
  refine v_bipush F dX11_init_1282 rfl ⟨by decide, by decide⟩ ?_
  refine v_ldcw (n := (-1035236496)) F dX11_init_1284 q3315 rfl ⟨by decide, by decide⟩ ?_
  refine v_iast0 F dX11_init_1287 ar119m119 ⟨by decide, by decide⟩ (fun _ _ => trivial) ?_
  obtain ⟨d162, ed162⟩ : ∃ z, z = st d161 (o + 119) 42 (-1035236496) := ⟨_, rfl⟩
  refine v_nD ed162 ?_
  refine v_dup_A F dX11_init_1288 ?_
  refine v_bipush F dX11_init_1289 rfl ⟨by decide, by decide⟩ ?_
  refine v_ldcw (n := (-949202525)) F dX11_init_1291 q3316 rfl ⟨by decide, by decide⟩ ?_
  refine v_iast0 F dX11_init_1294 ar119m119 ⟨by decide, by decide⟩ (fun _ _ => trivial) ?_
  obtain ⟨d163, ed163⟩ : ∃ z, z = st d162 (o + 119) 43 (-949202525) := ⟨_, rfl⟩
  refine v_nD ed163 ?_
  refine v_dup_A F dX11_init_1295 ?_
  refine v_bipush F dX11_init_1296 rfl ⟨by decide, by decide⟩ ?_
  refine v_ldcw (n := (-778901479)) F dX11_init_1298 q3317 rfl ⟨by decide, by decide⟩ ?_
  refine v_iast0 F dX11_init_1301 ar119m119 ⟨by decide, by decide⟩ (fun _ _ => trivial) ?_
  obtain ⟨d164, ed164⟩ : ∃ z, z = st d163 (o + 119) 44 (-778901479) := ⟨_, rfl⟩
  refine v_nD ed164 ?_
  refine v_dup_A F dX11_init_1302 ?_
  refine v_bipush F dX11_init_1303 rfl ⟨by decide, by decide⟩ ?_
  refine v_ldcw (n := (-694614492)) F dX11_init_1305 q3318 rfl ⟨by decide, by decide⟩ ?_
  refine v_iast0 F dX11_init_1308 ar119m119 ⟨by decide, by decide⟩ (fun _ _ => trivial) ?_
  obtain ⟨d165, ed165⟩ : ∃ z, z = st d164 (o + 119) 45 (-694614492) := ⟨_, rfl⟩
  refine v_nD ed165 ?_
  refine v_dup_A F dX11_init_1309 ?_
  refine v_bipush F dX11_init_1310 rfl ⟨by decide, by decide⟩ ?_
  refine v_ldcw (n := (-200395387)) F dX11_init_1312 q3319 rfl ⟨by decide, by decide⟩ ?_
  refine v_iast0 F dX11_init_1315 ar119m119 ⟨by decide, by decide⟩ (fun _ _ => trivial) ?_
  obtain ⟨d166, ed166⟩ : ∃ z, z = st d165 (o + 119) 46 (-200395387) := ⟨_, rfl⟩
  refine v_nD ed166 ?_
  refine v_dup_A F dX11_init_1316 ?_
  refine v_bipush F dX11_init_1317 rfl ⟨by decide, by decide⟩ ?_
  refine v_ldcw (n := 275423344) F dX11_init_1319 q3320 rfl ⟨by decide, by decide⟩ ?_
  refine v_iast0 F dX11_init_1322 ar119m119 ⟨by decide, by decide⟩ (fun _ _ => trivial) ?_
  obtain ⟨d167, ed167⟩ : ∃ z, z = st d166 (o + 119) 47 275423344 := ⟨_, rfl⟩
  refine v_nD ed167 ?_
  refine v_dup_A F dX11_init_1323 ?_
  refine v_bipush F dX11_init_1324 rfl ⟨by decide, by decide⟩ ?_
  refine v_ldcw (n := 430227734) F dX11_init_1326 q3321 rfl ⟨by decide, by decide⟩ ?_
  refine v_iast0 F dX11_init_1329 ar119m119 ⟨by decide, by decide⟩ (fun _ _ => trivial) ?_
  obtain ⟨d168, ed168⟩ : ∃ z, z = st d167 (o + 119) 48 430227734 := ⟨_, rfl⟩
  refine v_nD ed168 ?_
  refine v_dup_A F dX11_init_1330 ?_
  refine v_bipush F dX11_init_1331 rfl ⟨by decide, by decide⟩ ?_
  refine v_ldcw (n := 506948616) F dX11_init_1333 q3322 rfl ⟨by decide, by decide⟩ ?_
  refine v_iast0 F dX11_init_1336 ar119m119 ⟨by decide, by decide⟩ (fun _ _ => trivial) ?_
  obtain ⟨d169, ed169⟩ : ∃ z, z = st d168 (o + 119) 49 506948616 := ⟨_, rfl⟩
  refine v_nD ed169 ?_
  refine v_dup_A F dX11_init_1337 ?_
  refine v_bipush F dX11_init_1338 rfl ⟨by decide, by decide⟩ ?_
  refine v_ldcw (n := 659060556) F dX11_init_1340 q3323 rfl ⟨by decide, by decide⟩ ?_
  refine v_iast0 F dX11_init_1343 ar119m119 ⟨by decide, by decide⟩ (fun _ _ => trivial) ?_
  obtain ⟨d170, ed170⟩ : ∃ z, z = st d169 (o + 119) 50 659060556 := ⟨_, rfl⟩
  refine v_nD ed170 ?_
  refine v_dup_A F dX11_init_1344 ?_
  refine v_bipush F dX11_init_1345 rfl ⟨by decide, by decide⟩ ?_
  refine v_ldcw (n := 883997877) F dX11_init_1347 q3324 rfl ⟨by decide, by decide⟩ ?_
  refine v_iast0 F dX11_init_1350 ar119m119 ⟨by decide, by decide⟩ (fun _ _ => trivial) ?_
  obtain ⟨d171, ed171⟩ : ∃ z, z = st d170 (o + 119) 51 883997877 := ⟨_, rfl⟩
  refine v_nD ed171 ?_
  refine v_dup_A F dX11_init_1351 ?_
  refine v_bipush F dX11_init_1352 rfl ⟨by decide, by decide⟩ ?_
  refine v_ldcw (n := 958139571) F dX11_init_1354 q3325 rfl ⟨by decide, by decide⟩ ?_
  refine v_iast0 F dX11_init_1357 ar119m119 ⟨by decide, by decide⟩ (fun _ _ => trivial) ?_
  obtain ⟨d172, ed172⟩ : ∃ z, z = st d171 (o + 119) 52 958139571 := ⟨_, rfl⟩
  refine v_nD ed172 ?_
  refine v_dup_A F dX11_init_1358 ?_
  refine v_bipush F dX11_init_1359 rfl ⟨by decide, by decide⟩ ?_
  refine v_ldcw (n := 1322822218) F dX11_init_1361 q3326 rfl ⟨by decide, by decide⟩ ?_
  refine v_iast0 F dX11_init_1364 ar119m119 ⟨by decide, by decide⟩ (fun _ _ => trivial) ?_
  obtain ⟨d173, ed173⟩ : ∃ z, z = st d172 (o + 119) 53 1322822218 := ⟨_, rfl⟩
  refine v_nD ed173 ?_
  refine v_dup_A F dX11_init_1365 ?_
  refine v_bipush F dX11_init_1366 rfl ⟨by decide, by decide⟩ ?_
  refine v_ldcw (n := 1537002063) F dX11_init_1368 q3327 rfl ⟨by decide, by decide⟩ ?_
  refine v_iast0 F dX11_init_1371 ar119m119 ⟨by decide, by decide⟩ (fun _ _ => trivial) ?_
  obtain ⟨d174, ed174⟩ : ∃ z, z = st d173 (o + 119) 54 1537002063 := ⟨_, rfl⟩
  refine v_nD ed174 ?_
  refine v_dup_A F dX11_init_1372 ?_
  refine v_bipush F dX11_init_1373 rfl ⟨by decide, by decide⟩ ?_
  refine v_ldcw (n := 1747873779) F dX11_init_1375 q3328 rfl ⟨by decide, by decide⟩ ?_
  refine v_iast0 F dX11_init_1378 ar119m119 ⟨by decide, by decide⟩ (fun _ _ => trivial) ?_
  obtain ⟨d175, ed175⟩ : ∃ z, z = st d174 (o + 119) 55 1747873779 := ⟨_, rfl⟩
  refine v_nD ed175 ?_
  refine v_dup_A F dX11_init_1379 ?_
  refine v_bipush F dX11_init_1380 rfl ⟨by decide, by decide⟩ ?_
  refine v_ldcw (n := 1955562222) F dX11_init_1382 q3329 rfl ⟨by decide, by decide⟩ ?_
  refine v_iast0 F dX11_init_1385 ar119m119 ⟨by decide, by decide⟩ (fun _ _ => trivial) ?_
  obtain ⟨d176, ed176⟩ : ∃ z, z = st d175 (o + 119) 56 1955562222 := ⟨_, rfl⟩
  refine v_nD ed176 ?_
  refine v_dup_A F dX11_init_1386 ?_
  refine v_bipush F dX11_init_1387 rfl ⟨by decide, by decide⟩ ?_
  refine v_ldcw (n := 2024104815) F dX11_init_1389 q3330 rfl ⟨by decide, by decide⟩ ?_
  refine v_iast0 F dX11_init_1392 ar119m119 ⟨by decide, by decide⟩ (fun _ _ => trivial) ?_
  obtain ⟨d177, ed177⟩ : ∃ z, z = st d176 (o + 119) 57 2024104815 := ⟨_, rfl⟩
  refine v_nD ed177 ?_
  refine v_dup_A F dX11_init_1393 ?_
  refine v_bipush F dX11_init_1394 rfl ⟨by decide, by decide⟩ ?_
  refine v_ldcw (n := (-2067236844)) F dX11_init_1396 q3331 rfl ⟨by decide, by decide⟩ ?_
  refine v_iast0 F dX11_init_1399 ar119m119 ⟨by decide, by decide⟩ (fun _ _ => trivial) ?_
  obtain ⟨d178, ed178⟩ : ∃ z, z = st d177 (o + 119) 58 (-2067236844) := ⟨_, rfl⟩
  refine v_nD ed178 ?_
  refine v_dup_A F dX11_init_1400 ?_
  refine v_bipush F dX11_init_1401 rfl ⟨by decide, by decide⟩ ?_
  refine v_ldcw (n := (-1933114872)) F dX11_init_1403 q3332 rfl ⟨by decide, by decide⟩ ?_
  refine v_iast0 F dX11_init_1406 ar119m119 ⟨by decide, by decide⟩ (fun _ _ => trivial) ?_
  obtain ⟨d179, ed179⟩ : ∃ z, z = st d178 (o + 119) 59 (-1933114872) := ⟨_, rfl⟩
  refine v_nD ed179 ?_
  refine v_dup_A F dX11_init_1407 ?_
  refine v_bipush F dX11_init_1408 rfl ⟨by decide, by decide⟩ ?_
  refine v_ldcw (n := (-1866530822)) F dX11_init_1410 q3333 rfl ⟨by decide, by decide⟩ ?_
  refine v_iast0 F dX11_init_1413 ar119m119 ⟨by decide, by decide⟩ (fun _ _ => trivial) ?_
  obtain ⟨d180, ed180⟩ : ∃ z, z = st d179 (o + 119) 60 (-1866530822) := ⟨_, rfl⟩
  refine v_nD ed180 ?_
  refine v_dup_A F dX11_init_1414 ?_
  refine v_bipush F dX11_init_1415 rfl ⟨by decide, by decide⟩ ?_
  refine v_ldcw (n := (-1538233109)) F dX11_init_1417 q3334 rfl ⟨by decide, by decide⟩ ?_
  refine v_iast0 F dX11_init_1420 ar119m119 ⟨by decide, by decide⟩ (fun _ _ => trivial) ?_
  obtain ⟨d181, ed181⟩ : ∃ z, z = st d180 (o + 119) 61 (-1538233109) := ⟨_, rfl⟩
  refine v_nD ed181 ?_
  refine v_dup_A F dX11_init_1421 ?_
  refine v_bipush F dX11_init_1422 rfl ⟨by decide, by decide⟩ ?_
  refine v_ldcw (n := (-1090935817)) F dX11_init_1424 q3335 rfl ⟨by decide, by decide⟩ ?_
  refine v_iast0 F dX11_init_1427 ar119m119 ⟨by decide, by decide⟩ (fun _ _ => trivial) ?_
  obtain ⟨d182, ed182⟩ : ∃ z, z = st d181 (o + 119) 62 (-1090935817) := ⟨_, rfl⟩
  refine v_nD ed182 ?_
  refine v_dup_A F dX11_init_1428 ?_
  refine v_bipush F dX11_init_1429 rfl ⟨by decide, by decide⟩ ?_
  refine v_ldcw (n := (-965641998)) F dX11_init_1431 q3336 rfl ⟨by decide, by decide⟩ ?_
  refine v_iast0 F dX11_init_1434 ar119m119 ⟨by decide, by decide⟩ (fun _ _ => trivial) ?_
  obtain ⟨d183, ed183⟩ : ∃ z, z = st d182 (o + 119) 63 (-965641998) := ⟨_, rfl⟩
  refine v_nD ed183 ?_
  refine cpA F fz_X11_1220 (fun _ => hnm) dX11_init_1435 obm119 rfl rfl ?_
  obtain ⟨d184, ed184⟩ : ∃ z, z = st d183 o 170 (o + 119) := ⟨_, rfl⟩
  refine v_nD ed184 ?_
  refine v_aload_n F dX11_init_1438 rfl rfl ?_
  refine v_bipush F dX11_init_1439 rfl ⟨by decide, by decide⟩ ?_
  refine v_newa (t := 101) (ty := .int) F dX11_init_1441 rfl rfl ⟨by decide, by decide⟩ rfl (fun _ _ => rfl) rfl q348 ⟨by decide, by decide⟩ (by decide) (fun _ _ => trivial) (Nat.le_of_ble_eq_true rfl) (ks' := 81688) rfl (Nat.le_of_ble_eq_true rfl) hm119 ?_
  obtain ⟨m120, em120⟩ : ∃ z, z = aln m119 ((101 : Nat) : Int) 8 := ⟨_, rfl⟩
  refine v_nM em120 ?_
  have hm120 : m120 0 0 = (o + 121) := by rw [em120]; exact aln_nxo hm119 ho (by decide) rfl
  have obm120 : OB m120 o 11 := by rw [em120]; exact aln_ob obm119 (o_lt0 hm119 (by decide))
  have ar119m120 : AR m120 (o + 119) 101 64 := by rw [em120]; exact aln_ar ar119m119 (o_lt hm119 (by decide))
  have ar120m120 : AR m120 (o + 120) 101 8 := ⟨o_pos ho (by decide), by rw [em120, ← hm119]; exact aln_1, by rw [em120, ← hm119]; exact aln_2⟩
  refine v_dup_A F dX11_init_1443 ?_
  refine v_iconst F dX11_init_1444 ⟨by decide, by decide⟩ ?_
  refine v_ldcw (n := 1779033703) F dX11_init_1445 q3337 rfl ⟨by decide, by decide⟩ ?_
  refine v_iast0 F dX11_init_1448 ar120m120 ⟨by decide, by decide⟩ (fun _ _ => trivial) ?_
  obtain ⟨d185, ed185⟩ : ∃ z, z = st d184 (o + 120) 0 1779033703 := ⟨_, rfl⟩
  refine v_nD ed185 ?_
  refine v_dup_A F dX11_init_1449 ?_
  refine v_iconst F dX11_init_1450 ⟨by decide, by decide⟩ ?_
  refine v_ldcw (n := (-1150833019)) F dX11_init_1451 q3338 rfl ⟨by decide, by decide⟩ ?_
  refine v_iast0 F dX11_init_1454 ar120m120 ⟨by decide, by decide⟩ (fun _ _ => trivial) ?_
  obtain ⟨d186, ed186⟩ : ∃ z, z = st d185 (o + 120) 1 (-1150833019) := ⟨_, rfl⟩
  refine v_nD ed186 ?_
  refine v_dup_A F dX11_init_1455 ?_
  refine v_iconst F dX11_init_1456 ⟨by decide, by decide⟩ ?_
  refine v_ldcw (n := 1013904242) F dX11_init_1457 q3339 rfl ⟨by decide, by decide⟩ ?_
  refine v_iast0 F dX11_init_1460 ar120m120 ⟨by decide, by decide⟩ (fun _ _ => trivial) ?_
  obtain ⟨d187, ed187⟩ : ∃ z, z = st d186 (o + 120) 2 1013904242 := ⟨_, rfl⟩
  refine v_nD ed187 ?_
  refine v_dup_A F dX11_init_1461 ?_
  refine v_iconst F dX11_init_1462 ⟨by decide, by decide⟩ ?_
  refine v_ldcw (n := (-1521486534)) F dX11_init_1463 q3340 rfl ⟨by decide, by decide⟩ ?_
  refine v_iast0 F dX11_init_1466 ar120m120 ⟨by decide, by decide⟩ (fun _ _ => trivial) ?_
  obtain ⟨d188, ed188⟩ : ∃ z, z = st d187 (o + 120) 3 (-1521486534) := ⟨_, rfl⟩
  refine v_nD ed188 ?_
  refine v_dup_A F dX11_init_1467 ?_
  refine v_iconst F dX11_init_1468 ⟨by decide, by decide⟩ ?_
  refine v_ldcw (n := 1359893119) F dX11_init_1469 q3341 rfl ⟨by decide, by decide⟩ ?_
  refine v_iast0 F dX11_init_1472 ar120m120 ⟨by decide, by decide⟩ (fun _ _ => trivial) ?_
  obtain ⟨d189, ed189⟩ : ∃ z, z = st d188 (o + 120) 4 1359893119 := ⟨_, rfl⟩
  refine v_nD ed189 ?_
  refine v_dup_A F dX11_init_1473 ?_
  refine v_iconst F dX11_init_1474 ⟨by decide, by decide⟩ ?_
  refine v_ldcw (n := (-1694144372)) F dX11_init_1475 q3342 rfl ⟨by decide, by decide⟩ ?_
  refine v_iast0 F dX11_init_1478 ar120m120 ⟨by decide, by decide⟩ (fun _ _ => trivial) ?_
  obtain ⟨d190, ed190⟩ : ∃ z, z = st d189 (o + 120) 5 (-1694144372) := ⟨_, rfl⟩
  refine v_nD ed190 ?_
  refine v_dup_A F dX11_init_1479 ?_
  refine v_bipush F dX11_init_1480 rfl ⟨by decide, by decide⟩ ?_
  refine v_ldcw (n := 528734635) F dX11_init_1482 q3343 rfl ⟨by decide, by decide⟩ ?_
  refine v_iast0 F dX11_init_1485 ar120m120 ⟨by decide, by decide⟩ (fun _ _ => trivial) ?_
  obtain ⟨d191, ed191⟩ : ∃ z, z = st d190 (o + 120) 6 528734635 := ⟨_, rfl⟩
  refine v_nD ed191 ?_
  refine v_dup_A F dX11_init_1486 ?_
  refine v_bipush F dX11_init_1487 rfl ⟨by decide, by decide⟩ ?_
  refine v_ldcw (n := 1541459225) F dX11_init_1489 q3344 rfl ⟨by decide, by decide⟩ ?_
  refine v_iast0 F dX11_init_1492 ar120m120 ⟨by decide, by decide⟩ (fun _ _ => trivial) ?_
  obtain ⟨d192, ed192⟩ : ∃ z, z = st d191 (o + 120) 7 1541459225 := ⟨_, rfl⟩
  refine v_nD ed192 ?_
  refine cpA F fz_X11_1231 (fun _ => hnm) dX11_init_1493 obm120 rfl rfl ?_
  obtain ⟨d193, ed193⟩ : ∃ z, z = st d192 o 171 (o + 120) := ⟨_, rfl⟩
  refine v_nD ed193 ?_
  have ed : d193 = wr o WSX11_init d := by rw [wf_X11_init]; rw [ed193, ed192, ed191, ed190, ed189, ed188, ed187, ed186, ed185, ed184, ed183, ed182, ed181, ed180, ed179, ed178, ed177, ed176, ed175, ed174, ed173, ed172, ed171, ed170, ed169, ed168, ed167, ed166, ed165, ed164, ed163, ed162, ed161, ed160, ed159, ed158, ed157, ed156, ed155, ed154, ed153, ed152, ed151, ed150, ed149, ed148, ed147, ed146, ed145, ed144, ed143, ed142, ed141, ed140, ed139, ed138, ed137, ed136, ed135, ed134, ed133, ed132, ed131, ed130, ed129, ed128, ed127, ed126, ed125, ed124, ed123, ed122, ed121, ed120, ed119, ed118, ed117, ed116, ed115, ed114, ed113, ed112, ed111, ed110, ed109, ed108, ed107, ed106, ed105, ed104, ed103, ed102, ed101, ed100, ed99, ed98, ed97, ed96, ed95, ed94, ed93, ed92, ed91, ed90, ed89, ed88, ed87, ed86, ed85, ed84, ed83, ed82, ed81, ed80, ed79, ed78, ed77, ed76, ed75, ed74, ed73, ed72, ed71, ed70, ed69, ed68, ed67, ed66, ed65, ed64, ed63, ed62, ed61, ed60, ed59, ed58, ed57, ed56, ed55, ed54, ed53, ed52, ed51, ed50, ed49, ed48, ed47, ed46, ed45, ed44, ed43, ed42, ed41, ed40, ed39, ed38, ed37, ed36, ed35, ed34, ed33, ed32, ed31, ed30, ed29, ed28, ed27, ed26, ed25, ed24, ed23, ed22, ed21, ed20, ed19, ed18, ed17, ed16, ed15, ed14, ed13, ed12, ed11, ed10, ed9, ed8, ed7, ed6, ed5, ed4, ed3, ed2, ed1]
  have em : m120 = al TSX11_init m := by rw [tf_X11_init]; rw [em120, em119, em118, em117, em116, em115, em114, em113, em112, em111, em110, em109, em108, em107, em106, em105, em104, em103, em102, em101, em100, em99, em98, em97, em96, em95, em94, em93, em92, em91, em90, em89, em88, em87, em86, em85, em84, em83, em82, em81, em80, em79, em78, em77, em76, em75, em74, em73, em72, em71, em70, em69, em68, em67, em66, em65, em64, em63, em62, em61, em60, em59, em58, em57, em56, em55, em54, em53, em52, em51, em50, em49, em48, em47, em46, em45, em44, em43, em42, em41, em40, em39, em38, em37, em36, em35, em34, em33, em32, em31, em30, em29, em28, em27, em26, em25, em24, em23, em22, em21, em20, em19, em18, em17, em16, em15, em14, em13, em12, em11, em10, em9, em8, em7, em6, em5, em4, em3, em2, em1]
  rw [ed, em]
  exact kk
