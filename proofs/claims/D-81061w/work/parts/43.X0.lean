set_option maxRecDepth 100000
set_option maxHeartbeats 4000000
def WSX0_init : List (Int × Int × Int × Int) := [(0, 0, 1, 1), (2, 0, 3, 1), (2, 2, 4, 1), (2, 3, 5, 1), (2, 4, 6, 1), (2, 5, 7, 1), (0, 3, 2, 1), (0, 4, 8, 1), (10, 4, 0, 0), (10, 2, 0, 0), (10, 3, 0, 0), (10, 6, 0, 0), (9, 1, 10, 1), (9, 11, 11, 1), (9, 14, 12, 1), (9, 3, 1, 1), (9, 2, 2, 1), (13, 0, (-10), 0), (13, 1, (-12), 0), (13, 2, (-14), 0), (13, 3, (-16), 0), (13, 4, (-18), 0), (13, 5, (-20), 0), (13, 6, (-22), 0), (13, 7, (-24), 0), (13, 8, (-26), 0), (13, 9, (-28), 0), (13, 10, (-30), 0), (13, 11, (-32), 0), (13, 12, (-34), 0), (13, 13, (-36), 0), (13, 14, (-38), 0), (13, 15, (-40), 0), (13, 16, (-42), 0), (13, 17, (-44), 0), (13, 18, (-46), 0), (13, 19, (-48), 0), (13, 20, (-50), 0), (13, 21, (-52), 0), (13, 22, (-54), 0), (13, 23, (-56), 0), (13, 24, (-58), 0), (13, 25, (-60), 0), (13, 26, (-62), 0), (13, 27, (-64), 0), (13, 28, (-66), 0), (13, 29, (-68), 0), (13, 30, (-70), 0), (13, 31, (-72), 0), (13, 32, (-74), 0), (13, 33, (-76), 0), (13, 34, (-78), 0), (13, 35, (-80), 0), (13, 36, (-82), 0), (13, 37, (-84), 0), (13, 38, (-86), 0), (13, 39, (-88), 0), (13, 40, (-90), 0), (13, 41, (-92), 0), (13, 42, (-94), 0), (13, 43, (-96), 0), (13, 44, (-98), 0), (13, 45, (-100), 0), (13, 46, (-102), 0), (13, 47, (-104), 0), (13, 48, (-106), 0), (13, 49, (-108), 0), (13, 50, (-110), 0), (13, 51, (-112), 0), (13, 52, (-114), 0), (13, 53, (-116), 0), (13, 54, (-118), 0), (9, 0, 13, 1), (0, 6, 9, 1), (14, 0, 15, 1), (16, 0, 17, 1), (14, 6, 16, 1), (18, 0, 19, 1), (14, 7, 18, 1), (14, 8, 20, 1), (14, 9, 21, 1), (14, 10, 22, 1), (14, 11, 23, 1), (14, 12, 24, 1), (14, 13, 25, 1), (14, 15, 26, 1), (25, 0, 27, 1), (25, 1, 28, 1), (25, 2, 29, 1), (25, 3, 30, 1), (25, 4, 31, 1), (25, 5, 32, 1), (0, 7, 14, 1), (33, 0, 34, 1), (35, 0, 36, 1), (33, 6, 35, 1), (37, 0, 38, 1), (33, 7, 37, 1), (33, 8, 39, 1), (33, 9, 40, 1), (33, 10, 41, 1), (33, 11, 42, 1), (33, 12, 43, 1), (33, 13, 44, 1), (33, 15, 45, 1), (44, 0, 46, 1), (44, 1, 47, 1), (44, 2, 48, 1), (44, 3, 49, 1), (44, 4, 50, 1), (44, 5, 51, 1), (0, 8, 33, 1), (0, 10, (-1), 0), (52, 0, 53, 1), (52, 1, 54, 1), (52, 2, 55, 1), (0, 11, 52, 1), (0, 13, 56, 1), (0, 14, 57, 1), (0, 16, 58, 1), (0, 18, 59, 1), (0, 19, 60, 1), (0, 20, 61, 1), (0, 22, 62, 1), (0, 23, 63, 1), (0, 24, 64, 1), (0, 25, 65, 1), (0, 27, 66, 1), (0, 28, 67, 1), (68, (-1), 6, 0), (0, 29, 68, 1), (0, 31, 75, 1), (0, 33, 76, 1), (0, 34, 77, 1), (78, 4, 79, 1), (80, (-1), 60, 0), (78, 6, 80, 1), (78, 7, 141, 1), (142, (-1), 60, 0), (78, 11, 142, 1), (78, 12, 203, 1), (78, 13, 204, 1), (205, (-1), 40, 0), (78, 14, 205, 1), (78, 15, 246, 1), (78, 16, 247, 1), (78, 18, 248, 1), (78, 20, 249, 1), (78, 21, 250, 1), (251, (-1), 9, 0), (78, 23, 251, 1), (78, 24, 261, 1), (78, 25, 262, 1), (78, 26, 263, 1), (78, 27, 264, 1), (78, 28, 265, 1), (78, 31, 266, 1), (267, (-1), 9, 0), (78, 33, 267, 1), (277, (-1), 9, 0), (78, 34, 277, 1), (287, (-1), 9, 0), (78, 35, 287, 1), (297, (-1), 9, 0), (78, 36, 297, 1), (78, 37, 307, 1), (78, 38, 308, 1), (78, 39, 309, 1), (78, 41, 310, 1), (78, 43, 311, 1), (78, 44, 312, 1), (78, 45, 313, 1), (78, 46, 314, 1), (78, 47, 315, 1), (78, 48, 316, 1), (78, 50, 317, 1), (78, 52, 318, 1), (78, 53, 319, 1), (0, 35, 78, 1), (320, 4, 321, 1), (322, (-1), 60, 0), (320, 6, 322, 1), (320, 7, 383, 1), (384, (-1), 60, 0), (320, 11, 384, 1), (320, 12, 445, 1), (320, 13, 446, 1), (447, (-1), 40, 0), (320, 14, 447, 1), (320, 15, 488, 1), (320, 16, 489, 1), (320, 18, 490, 1), (320, 20, 491, 1), (320, 21, 492, 1), (493, (-1), 9, 0), (320, 23, 493, 1), (320, 24, 503, 1), (320, 25, 504, 1), (320, 26, 505, 1), (320, 27, 506, 1), (320, 28, 507, 1), (320, 31, 508, 1), (509, (-1), 9, 0), (320, 33, 509, 1), (519, (-1), 9, 0), (320, 34, 519, 1), (529, (-1), 9, 0), (320, 35, 529, 1), (539, (-1), 9, 0), (320, 36, 539, 1), (320, 37, 549, 1), (320, 38, 550, 1), (320, 39, 551, 1), (320, 41, 552, 1), (320, 43, 553, 1), (320, 44, 554, 1), (320, 45, 555, 1), (320, 46, 556, 1), (320, 47, 557, 1), (320, 48, 558, 1), (320, 50, 559, 1), (320, 52, 560, 1), (320, 53, 561, 1), (0, 36, 320, 1), (0, 38, 562, 1), (0, 39, 563, 1), (0, 40, 564, 1), (0, 41, 565, 1), (566, (-1), 61, 0), (0, 48, 566, 1), (628, 1, 629, 1), (628, 2, 630, 1), (628, 3, 631, 1), (628, 4, 632, 1), (628, 5, 633, 1), (628, 7, 634, 1), (628, 8, 635, 1), (56, 0, 628, 1), (636, 1, 637, 1), (636, 2, 638, 1), (636, 3, 639, 1), (636, 4, 640, 1), (636, 5, 641, 1), (636, 7, 642, 1), (636, 8, 643, 1), (56, 1, 636, 1), (644, 1, 645, 1), (644, 2, 646, 1), (644, 3, 647, 1), (644, 4, 648, 1), (644, 5, 649, 1), (644, 7, 650, 1), (644, 8, 651, 1), (56, 2, 644, 1), (652, 1, 653, 1), (652, 2, 654, 1), (652, 3, 655, 1), (652, 4, 656, 1), (652, 5, 657, 1), (652, 7, 658, 1), (652, 8, 659, 1), (56, 3, 652, 1), (660, 1, 661, 1), (660, 2, 662, 1), (660, 3, 663, 1), (660, 4, 664, 1), (660, 5, 665, 1), (660, 7, 666, 1), (660, 8, 667, 1), (56, 4, 660, 1), (668, 1, 669, 1), (668, 2, 670, 1), (668, 3, 671, 1), (668, 4, 672, 1), (668, 5, 673, 1), (668, 7, 674, 1), (668, 8, 675, 1), (56, 5, 668, 1), (676, 0, 677, 1), (678, (-1), 60, 0), (676, 1, 678, 1), (739, (-1), 60, 0), (676, 2, 739, 1), (77, 0, 676, 1), (800, 0, 801, 1), (802, (-1), 60, 0), (800, 1, 802, 1), (863, (-1), 60, 0), (800, 2, 863, 1), (77, 1, 800, 1), (924, 0, 925, 1), (926, (-1), 60, 0), (924, 1, 926, 1), (987, (-1), 60, 0), (924, 2, 987, 1), (77, 2, 924, 1), (1048, 0, 1049, 1), (1050, (-1), 60, 0), (1048, 1, 1050, 1), (1111, (-1), 60, 0), (1048, 2, 1111, 1), (77, 3, 1048, 1), (1172, 0, 1173, 1), (1174, (-1), 60, 0), (1172, 1, 1174, 1), (1235, (-1), 60, 0), (1172, 2, 1235, 1), (77, 4, 1172, 1), (1296, 0, 1297, 1), (1298, (-1), 60, 0), (1296, 1, 1298, 1), (1359, (-1), 60, 0), (1296, 2, 1359, 1), (77, 5, 1296, 1), (1420, 0, 1421, 1), (1422, (-1), 60, 0), (1420, 1, 1422, 1), (1483, (-1), 60, 0), (1420, 2, 1483, 1), (77, 6, 1420, 1)]
def TSX0_init : List (Int × Int × Int × Int) := [(102, 4000, 0, 0), (2, 0, 0, 0), (101, 24, 0, 0), (101, 60, 0, 0), (101, 60, 0, 0), (101, 60, 0, 0), (101, 60, 0, 0), (109, 60, 0, 0), (3, 0, 0, 0), (4, 0, 0, 0), (103, 7, 0, 0), (101, 4000, 0, 0), (115, 55, 0, 0), (5, 0, 0, 0), (101, 4, 0, 0), (6, 0, 0, 0), (101, 4000, 0, 0), (6, 0, 0, 0), (101, 4000, 0, 0), (101, 40, 0, 0), (101, 40, 0, 0), (101, 40, 0, 0), (101, 40, 0, 0), (103, 40, 0, 0), (114, 6, 0, 0), (103, 41, 0, 0), (7, 0, 0, 0), (7, 0, 0, 0), (7, 0, 0, 0), (7, 0, 0, 0), (7, 0, 0, 0), (7, 0, 0, 0), (5, 0, 0, 0), (101, 4, 0, 0), (6, 0, 0, 0), (101, 4000, 0, 0), (6, 0, 0, 0), (101, 4000, 0, 0), (101, 40, 0, 0), (101, 40, 0, 0), (101, 40, 0, 0), (101, 40, 0, 0), (103, 40, 0, 0), (114, 6, 0, 0), (103, 41, 0, 0), (7, 0, 0, 0), (7, 0, 0, 0), (7, 0, 0, 0), (7, 0, 0, 0), (7, 0, 0, 0), (7, 0, 0, 0), (8, 0, 0, 0), (101, 8, 0, 0), (101, 64, 0, 0), (101, 8, 0, 0), (110, 6, 0, 0), (111, 54, 0, 0), (101, 60, 0, 0), (101, 60, 0, 0), (101, 60, 0, 0), (103, 60, 0, 0), (101, 60, 0, 0), (101, 60, 0, 0), (101, 60, 0, 0), (103, 60, 0, 0), (101, 6, 0, 0), (103, 6, 0, 0), (106, 6, 102, 200), (112, 200, 0, 0), (112, 200, 0, 0), (113, 7, 0, 0), (9, 0, 0, 0), (103, 9, 0, 0), (106, 60, 102, 9), (102, 9, 0, 0), (105, 60, 101, 9), (101, 60, 0, 0), (104, 9, 0, 0), (108, 40, 104, 9), (101, 40, 0, 0), (101, 40, 0, 0), (101, 9, 0, 0), (103, 9, 0, 0), (103, 9, 0, 0), (106, 9, 102, 60), (102, 60, 0, 0), (102, 60, 0, 0), (104, 60, 0, 0), (101, 60, 0, 0), (103, 9, 0, 0), (104, 9, 0, 0), (105, 9, 101, 9), (107, 9, 103, 9), (107, 9, 103, 9), (105, 9, 101, 9), (103, 9, 0, 0), (101, 81, 0, 0), (101, 81, 0, 0), (101, 9, 0, 0), (101, 9, 0, 0), (101, 9, 0, 0), (103, 9, 0, 0), (101, 9, 0, 0), (101, 9, 0, 0), (101, 9, 0, 0), (101, 8, 0, 0), (103, 60, 0, 0), (104, 9, 0, 0), (9, 0, 0, 0), (103, 9, 0, 0), (106, 60, 102, 9), (102, 9, 0, 0), (105, 60, 101, 9), (101, 60, 0, 0), (104, 9, 0, 0), (108, 40, 104, 9), (101, 40, 0, 0), (101, 40, 0, 0), (101, 9, 0, 0), (103, 9, 0, 0), (103, 9, 0, 0), (106, 9, 102, 60), (102, 60, 0, 0), (102, 60, 0, 0), (104, 60, 0, 0), (101, 60, 0, 0), (103, 9, 0, 0), (104, 9, 0, 0), (105, 9, 101, 9), (107, 9, 103, 9), (107, 9, 103, 9), (105, 9, 101, 9), (103, 9, 0, 0), (101, 81, 0, 0), (101, 81, 0, 0), (101, 9, 0, 0), (101, 9, 0, 0), (101, 9, 0, 0), (103, 9, 0, 0), (101, 9, 0, 0), (101, 9, 0, 0), (101, 9, 0, 0), (101, 8, 0, 0), (103, 60, 0, 0), (104, 9, 0, 0), (101, 60, 0, 0), (101, 60, 0, 0), (103, 60, 0, 0), (103, 60, 0, 0), (108, 61, 104, 61), (10, 0, 0, 0), (101, 9, 0, 0), (101, 9, 0, 0), (101, 9, 0, 0), (101, 9, 0, 0), (103, 9, 0, 0), (101, 9, 0, 0), (101, 9, 0, 0), (10, 0, 0, 0), (101, 9, 0, 0), (101, 9, 0, 0), (101, 9, 0, 0), (101, 9, 0, 0), (103, 9, 0, 0), (101, 9, 0, 0), (101, 9, 0, 0), (10, 0, 0, 0), (101, 9, 0, 0), (101, 9, 0, 0), (101, 9, 0, 0), (101, 9, 0, 0), (103, 9, 0, 0), (101, 9, 0, 0), (101, 9, 0, 0), (10, 0, 0, 0), (101, 9, 0, 0), (101, 9, 0, 0), (101, 9, 0, 0), (101, 9, 0, 0), (103, 9, 0, 0), (101, 9, 0, 0), (101, 9, 0, 0), (10, 0, 0, 0), (101, 9, 0, 0), (101, 9, 0, 0), (101, 9, 0, 0), (101, 9, 0, 0), (103, 9, 0, 0), (101, 9, 0, 0), (101, 9, 0, 0), (10, 0, 0, 0), (101, 9, 0, 0), (101, 9, 0, 0), (101, 9, 0, 0), (101, 9, 0, 0), (103, 9, 0, 0), (101, 9, 0, 0), (101, 9, 0, 0), (11, 0, 0, 0), (101, 60, 0, 0), (106, 60, 102, 54), (106, 60, 102, 54), (11, 0, 0, 0), (101, 60, 0, 0), (106, 60, 102, 54), (106, 60, 102, 54), (11, 0, 0, 0), (101, 60, 0, 0), (106, 60, 102, 54), (106, 60, 102, 54), (11, 0, 0, 0), (101, 60, 0, 0), (106, 60, 102, 54), (106, 60, 102, 54), (11, 0, 0, 0), (101, 60, 0, 0), (106, 60, 102, 54), (106, 60, 102, 54), (11, 0, 0, 0), (101, 60, 0, 0), (106, 60, 102, 54), (106, 60, 102, 54), (11, 0, 0, 0), (101, 60, 0, 0), (106, 60, 102, 54), (106, 60, 102, 54)]
theorem alX0_init : alN TSX0_init = 1543 := rfl
theorem wf_X0_init (o : Int) (d : Dt) : wr o WSX0_init d = (st (wr (o + 1420) WSX10_init (st (wr (o + 1296) WSX10_init (st (wr (o + 1172) WSX10_init (st (wr (o + 1048) WSX10_init (st (wr (o + 924) WSX10_init (st (wr (o + 800) WSX10_init (st (wr (o + 676) WSX10_init (st (wr (o + 668) WSX9_init (st (wr (o + 660) WSX9_init (st (wr (o + 652) WSX9_init (st (wr (o + 644) WSX9_init (st (wr (o + 636) WSX9_init (st (wr (o + 628) WSX9_init (st (mlD (st (st (st (st (st (wr (o + 320) WSX8_init (st (wr (o + 78) WSX8_init (st (st (st (st (mlD (st (st (st (st (st (st (st (st (st (st (st (st (st (wr (o + 52) WSX7_init (st (st (wr (o + 33) WSX4_init (st (wr (o + 14) WSX4_init (st (wr (o + 9) WSX2_init (st (st (wr (o + 2) WSX1_init (st d o 0 (o + 1))) o 3 (o + 2)) o 4 (o + 8))) o 6 (o + 9))) o 7 (o + 14))) o 8 (o + 33)) o 10 (-1))) o 11 (o + 52)) o 13 (o + 56)) o 14 (o + 57)) o 16 (o + 58)) o 18 (o + 59)) o 19 (o + 60)) o 20 (o + 61)) o 22 (o + 62)) o 23 (o + 63)) o 24 (o + 64)) o 25 (o + 65)) o 27 (o + 66)) o 28 (o + 67)) (o + 68) 6) o 29 (o + 68)) o 31 (o + 75)) o 33 (o + 76)) o 34 (o + 77))) o 35 (o + 78))) o 36 (o + 320)) o 38 (o + 562)) o 39 (o + 563)) o 40 (o + 564)) o 41 (o + 565)) (o + 566) 61) o 48 (o + 566))) (o + 56) 0 (o + 628))) (o + 56) 1 (o + 636))) (o + 56) 2 (o + 644))) (o + 56) 3 (o + 652))) (o + 56) 4 (o + 660))) (o + 56) 5 (o + 668))) (o + 77) 0 (o + 676))) (o + 77) 1 (o + 800))) (o + 77) 2 (o + 924))) (o + 77) 3 (o + 1048))) (o + 77) 4 (o + 1172))) (o + 77) 5 (o + 1296))) (o + 77) 6 (o + 1420)) := by
  rw [wr_shf o 1420, wr_shf o 1296, wr_shf o 1172, wr_shf o 1048, wr_shf o 924, wr_shf o 800, wr_shf o 676, wr_shf o 668, wr_shf o 660, wr_shf o 652, wr_shf o 644, wr_shf o 636, wr_shf o 628, wr_shf o 320, wr_shf o 78, wr_shf o 52, wr_shf o 33, wr_shf o 14, wr_shf o 9, wr_shf o 2]; simp [WSX0_init, WSX10_init, WSX1_init, WSX2_init, WSX4_init, WSX7_init, WSX8_init, WSX9_init, wr, shf, adr]
theorem tf_X0_init (m : Dt) : al TSX0_init m = (al TSX10_init (aln (al TSX10_init (aln (al TSX10_init (aln (al TSX10_init (aln (al TSX10_init (aln (al TSX10_init (aln (al TSX10_init (aln (al TSX9_init (aln (al TSX9_init (aln (al TSX9_init (aln (al TSX9_init (aln (al TSX9_init (aln (al TSX9_init (aln (mlt (aln (aln (aln (aln (al TSX8_init (aln (al TSX8_init (aln (aln (aln (aln (mlt (aln (aln (aln (aln (aln (aln (aln (aln (aln (aln (aln (aln (al TSX7_init (aln (al TSX4_init (aln (al TSX4_init (aln (al TSX2_init (aln (aln (al TSX1_init (aln (aln m ((102 : Nat) : Int) 4000) ((1 : Nat) + 1 : Int) 0)) ((109 : Nat) : Int) 60) ((2 : Nat) + 1 : Int) 0)) ((4 : Nat) + 1 : Int) 0)) ((4 : Nat) + 1 : Int) 0)) ((7 : Nat) + 1 : Int) 0)) ((110 : Nat) : Int) 6) ((111 : Nat) : Int) 54) ((101 : Nat) : Int) 60) ((101 : Nat) : Int) 60) ((101 : Nat) : Int) 60) ((103 : Nat) : Int) 60) ((101 : Nat) : Int) 60) ((101 : Nat) : Int) 60) ((101 : Nat) : Int) 60) ((103 : Nat) : Int) 60) ((101 : Nat) : Int) 6) ((103 : Nat) : Int) 6) ((106 : Nat) : Int) 6 ((102 : Nat) : Int) 200) ((112 : Nat) : Int) 200) ((112 : Nat) : Int) 200) ((113 : Nat) : Int) 7) ((8 : Nat) + 1 : Int) 0)) ((8 : Nat) + 1 : Int) 0)) ((101 : Nat) : Int) 60) ((101 : Nat) : Int) 60) ((103 : Nat) : Int) 60) ((103 : Nat) : Int) 60) ((108 : Nat) : Int) 61 ((104 : Nat) : Int) 61) ((9 : Nat) + 1 : Int) 0)) ((9 : Nat) + 1 : Int) 0)) ((9 : Nat) + 1 : Int) 0)) ((9 : Nat) + 1 : Int) 0)) ((9 : Nat) + 1 : Int) 0)) ((9 : Nat) + 1 : Int) 0)) ((10 : Nat) + 1 : Int) 0)) ((10 : Nat) + 1 : Int) 0)) ((10 : Nat) + 1 : Int) 0)) ((10 : Nat) + 1 : Int) 0)) ((10 : Nat) + 1 : Int) 0)) ((10 : Nat) + 1 : Int) 0)) ((10 : Nat) + 1 : Int) 0)) := by
  simp [TSX0_init, TSX10_init, TSX1_init, TSX2_init, TSX4_init, TSX7_init, TSX8_init, TSX9_init, al]
theorem w0_X0_init {w : Wd} {l : Launch} {G : Cx} {Q : State → Prop} {d m : Dt} {o : Int} (F : Fx w G cX0_init RX0 3 none { frames := 6, cells := 1543, slots := 85085, locals := 134 }) (hnm : G.2.2.2.2.2.2.2.1.name = yX0_init.name) (hm : m 0 0 = o + 1) (obm : OB m o 0) (kk : V w l XT G Q (wr o WSX0_init d) (al TSX0_init m) 1543 85085 350 [mA o, mI 7, mU] []) : V w l XT G Q d m 0 0 0 [mA o, mU, mU] [] := by
  have ho := obm.1
  refine v_aload_n F dX0_init_0 rfl rfl ?_
  refine v_objI F obm.1 dX0_init_1 q314 q315 q316 (Nat.le_of_ble_eq_true rfl) (Nat.le_of_ble_eq_true rfl) (Nat.le_of_ble_eq_true rfl) ?_
  refine v_aload_n F dX0_init_4 rfl rfl ?_
  refine v_sipush F dX0_init_5 rfl ⟨by decide, by decide⟩ ?_
  refine v_newa (t := 102) (ty := .byte) F dX0_init_8 rfl rfl ⟨by decide, by decide⟩ rfl (fun _ _ => rfl) rfl q347 ⟨by decide, by decide⟩ (by decide) (fun _ _ => trivial) (Nat.le_of_ble_eq_true rfl) (ks' := 4000) rfl (Nat.le_of_ble_eq_true rfl) hm ?_
  obtain ⟨m1, em1⟩ : ∃ z, z = aln m ((102 : Nat) : Int) 4000 := ⟨_, rfl⟩
  refine v_nM em1 ?_
  have hm1 : m1 0 0 = (o + 2) := by rw [em1]; exact aln_nxo hm ho (by decide) rfl
  have obm1 : OB m1 o 0 := by rw [em1]; exact aln_ob obm (o_lt0 hm (by decide))
  refine cpA F fz_X0_13 (fun _ => hnm) dX0_init_10 obm1 rfl rfl ?_
  obtain ⟨d1, ed1⟩ : ∃ z, z = st d o 0 (o + 1) := ⟨_, rfl⟩
  refine v_nD ed1 ?_
  have f0d1 : d1 o 0 = (o + 1) := by rw [ed1, st_eq]
  refine v_aload_n F dX0_init_13 rfl rfl ?_
  refine v_new (c := 1) (n := 7) F dX0_init_14 rfl (Nat.le_of_ble_eq_true rfl) rfl ok_X1 q317 q318 q283 in_X1 tyX1_ok (fun _ _ => trivial) (Nat.le_of_ble_eq_true rfl) (Nat.le_of_ble_eq_true rfl) hm1 ?_
  have hn2 : m1 0 0 = (o + 2) := hm1
  obtain ⟨m2, em2⟩ : ∃ z, z = aln m1 ((1 : Nat) + 1 : Int) 0 := ⟨_, rfl⟩
  refine v_nM em2 ?_
  have hm2 : m2 0 0 = (o + 3) := by rw [em2]; exact aln_nxo hm1 ho (by decide) rfl
  have obm2 : OB m2 o 0 := by rw [em2]; exact aln_ob obm1 (o_lt0 hm1 (by decide))
  have ob2m2 : OB m2 (o + 2) 1 := ⟨o_pos ho (by decide), by rw [em2, ← hn2]; exact aln_1⟩
  refine v_dup_A F dX0_init_17 ?_
  refine v_callI F dX0_init_18 cn_X0_19 rfl ob2m2.1 (vm_X1_init (o := (o + 2)) (hm2.trans (o_da rfl)) ob2m2) rfl (rOk.of rfl) ?_
  obtain ⟨m3, em3⟩ : ∃ z, z = al TSX1_init m2 := ⟨_, rfl⟩
  refine v_nM em3 ?_
  have hm3 : m3 0 0 = (o + 8) := by rw [em3]; exact al_nxo rfl hm2 ho (by decide) alX1_init rfl
  have obm3 : OB m3 o 0 := by rw [em3]; exact al_ob rfl obm2 (o_lt0 hm2 (by decide))
  have ob2m3 : OB m3 (o + 2) 1 := by rw [em3]; exact al_ob rfl ob2m2 (o_lt hm2 (by decide))
  obtain ⟨d2, ed2⟩ : ∃ z, z = wr (o + 2) WSX1_init d1 := ⟨_, rfl⟩
  refine v_nD ed2 ?_
  have f0d2 : d2 o 0 = (o + 1) := by rw [ed2, wr_lt rfl (o_l1 (by decide))]; exact f0d1
  refine cpA F fz_X0_20 (fun _ => hnm) dX0_init_21 obm3 rfl rfl ?_
  obtain ⟨d3, ed3⟩ : ∃ z, z = st d2 o 3 (o + 2) := ⟨_, rfl⟩
  refine v_nD ed3 ?_
  have f0d3 : d3 o 0 = (o + 1) := by rw [ed3, st_nk (by decide)]; exact f0d2
  have f3d3 : d3 o 3 = (o + 2) := by rw [ed3, st_eq]
  refine v_aload_n F dX0_init_24 rfl rfl ?_
  refine v_bipush F dX0_init_25 rfl ⟨by decide, by decide⟩ ?_
  refine v_anew (t := 109) (C := "ElectionHouse$Person") F dX0_init_27 rfl ⟨by decide, by decide⟩ rfl q349 q350 ⟨by decide, by decide⟩ (fun _ _ => trivial) (Nat.le_of_ble_eq_true rfl) (ks' := 4331) rfl (Nat.le_of_ble_eq_true rfl) hm3 ?_
  obtain ⟨m4, em4⟩ : ∃ z, z = aln m3 ((109 : Nat) : Int) 60 := ⟨_, rfl⟩
  refine v_nM em4 ?_
  have hm4 : m4 0 0 = (o + 9) := by rw [em4]; exact aln_nxo hm3 ho (by decide) rfl
  have obm4 : OB m4 o 0 := by rw [em4]; exact aln_ob obm3 (o_lt0 hm3 (by decide))
  refine cpA F fz_X0_26 (fun _ => hnm) dX0_init_30 obm4 rfl rfl ?_
  obtain ⟨d4, ed4⟩ : ∃ z, z = st d3 o 4 (o + 8) := ⟨_, rfl⟩
  refine v_nD ed4 ?_
  have f0d4 : d4 o 0 = (o + 1) := by rw [ed4, st_nk (by decide)]; exact f0d3
  have f3d4 : d4 o 3 = (o + 2) := by rw [ed4, st_nk (by decide)]; exact f3d3
  refine v_aload_n F dX0_init_33 rfl rfl ?_
  refine v_new (c := 2) (n := 17) F dX0_init_34 rfl (Nat.le_of_ble_eq_true rfl) rfl ok_X2 q351 q352 q284 in_X2 tyX2_ok (fun _ _ => trivial) (Nat.le_of_ble_eq_true rfl) (Nat.le_of_ble_eq_true rfl) hm4 ?_
  have hn9 : m4 0 0 = (o + 9) := hm4
  obtain ⟨m5, em5⟩ : ∃ z, z = aln m4 ((2 : Nat) + 1 : Int) 0 := ⟨_, rfl⟩
  refine v_nM em5 ?_
  have hm5 : m5 0 0 = (o + 10) := by rw [em5]; exact aln_nxo hm4 ho (by decide) rfl
  have obm5 : OB m5 o 0 := by rw [em5]; exact aln_ob obm4 (o_lt0 hm4 (by decide))
  have ob9m5 : OB m5 (o + 9) 2 := ⟨o_pos ho (by decide), by rw [em5, ← hn9]; exact aln_1⟩
  refine v_dup_A F dX0_init_37 ?_
  refine v_aload_n F dX0_init_38 rfl rfl ?_
  refine v_getA F fg_X0_13 dX0_init_39 obm5 rfl f0d4 ?_
  refine v_aload_n F dX0_init_42 rfl rfl ?_
  refine v_getA F fg_X0_20 dX0_init_43 obm5 rfl f3d4 ?_
  refine v_callI F dX0_init_46 cn_X0_32 rfl ob9m5.1 (vm_X2_init (o := (o + 9)) (hm5.trans (o_da rfl)) ob9m5 (o_da rfl) (o_da rfl)) rfl (rOk.of rfl) ?_
  obtain ⟨m6, em6⟩ : ∃ z, z = al TSX2_init m5 := ⟨_, rfl⟩
  refine v_nM em6 ?_
  have hm6 : m6 0 0 = (o + 14) := by rw [em6]; exact al_nxo rfl hm5 ho (by decide) alX2_init rfl
  have obm6 : OB m6 o 0 := by rw [em6]; exact al_ob rfl obm5 (o_lt0 hm5 (by decide))
  have ob9m6 : OB m6 (o + 9) 2 := by rw [em6]; exact al_ob rfl ob9m5 (o_lt hm5 (by decide))
  obtain ⟨d5, ed5⟩ : ∃ z, z = wr (o + 9) WSX2_init d4 := ⟨_, rfl⟩
  refine v_nD ed5 ?_
  have f0d5 : d5 o 0 = (o + 1) := by rw [ed5, wr_lt rfl (o_l1 (by decide))]; exact f0d4
  have f3d5 : d5 o 3 = (o + 2) := by rw [ed5, wr_lt rfl (o_l1 (by decide))]; exact f3d4
  refine cpA F fz_X0_35 (fun _ => hnm) dX0_init_49 obm6 rfl rfl ?_
  obtain ⟨d6, ed6⟩ : ∃ z, z = st d5 o 6 (o + 9) := ⟨_, rfl⟩
  refine v_nD ed6 ?_
  have f0d6 : d6 o 0 = (o + 1) := by rw [ed6, st_nk (by decide)]; exact f0d5
  have f3d6 : d6 o 3 = (o + 2) := by rw [ed6, st_nk (by decide)]; exact f3d5
  refine v_aload_n F dX0_init_52 rfl rfl ?_
  refine v_new (c := 4) (n := 16) F dX0_init_53 rfl (Nat.le_of_ble_eq_true rfl) rfl ok_X4 q534 q535 q289 in_X4 tyX4_ok (fun _ _ => trivial) (Nat.le_of_ble_eq_true rfl) (Nat.le_of_ble_eq_true rfl) hm6 ?_
  have hn14 : m6 0 0 = (o + 14) := hm6
  obtain ⟨m7, em7⟩ : ∃ z, z = aln m6 ((4 : Nat) + 1 : Int) 0 := ⟨_, rfl⟩
  refine v_nM em7 ?_
  have hm7 : m7 0 0 = (o + 15) := by rw [em7]; exact aln_nxo hm6 ho (by decide) rfl
  have obm7 : OB m7 o 0 := by rw [em7]; exact aln_ob obm6 (o_lt0 hm6 (by decide))
  have ob14m7 : OB m7 (o + 14) 4 := ⟨o_pos ho (by decide), by rw [em7, ← hn14]; exact aln_1⟩
  refine v_dup_A F dX0_init_56 ?_
  refine v_callI F dX0_init_57 cn_X0_41 rfl ob14m7.1 (vm_X4_init (o := (o + 14)) (hm7.trans (o_da rfl)) ob14m7) rfl (rOk.of rfl) ?_
  obtain ⟨m8, em8⟩ : ∃ z, z = al TSX4_init m7 := ⟨_, rfl⟩
  refine v_nM em8 ?_
  have hm8 : m8 0 0 = (o + 33) := by rw [em8]; exact al_nxo rfl hm7 ho (by decide) alX4_init rfl
  have obm8 : OB m8 o 0 := by rw [em8]; exact al_ob rfl obm7 (o_lt0 hm7 (by decide))
  have ob14m8 : OB m8 (o + 14) 4 := by rw [em8]; exact al_ob rfl ob14m7 (o_lt hm7 (by decide))
  obtain ⟨d7, ed7⟩ : ∃ z, z = wr (o + 14) WSX4_init d6 := ⟨_, rfl⟩
  refine v_nD ed7 ?_
  have f0d7 : d7 o 0 = (o + 1) := by rw [ed7, wr_lt rfl (o_l1 (by decide))]; exact f0d6
  have f3d7 : d7 o 3 = (o + 2) := by rw [ed7, wr_lt rfl (o_l1 (by decide))]; exact f3d6
  refine cpA F fz_X0_42 (fun h => by cases h) dX0_init_60 obm8 rfl rfl ?_
  obtain ⟨d8, ed8⟩ : ∃ z, z = st d7 o 7 (o + 14) := ⟨_, rfl⟩
  refine v_nD ed8 ?_
  have f0d8 : d8 o 0 = (o + 1) := by rw [ed8, st_nk (by decide)]; exact f0d7
  have f3d8 : d8 o 3 = (o + 2) := by rw [ed8, st_nk (by decide)]; exact f3d7
  refine v_aload_n F dX0_init_63 rfl rfl ?_
  refine v_new (c := 4) (n := 16) F dX0_init_64 rfl (Nat.le_of_ble_eq_true rfl) rfl ok_X4 q534 q535 q289 in_X4 tyX4_ok (fun _ _ => trivial) (Nat.le_of_ble_eq_true rfl) (Nat.le_of_ble_eq_true rfl) hm8 ?_
  have hn33 : m8 0 0 = (o + 33) := hm8
  obtain ⟨m9, em9⟩ : ∃ z, z = aln m8 ((4 : Nat) + 1 : Int) 0 := ⟨_, rfl⟩
  refine v_nM em9 ?_
  have hm9 : m9 0 0 = (o + 34) := by rw [em9]; exact aln_nxo hm8 ho (by decide) rfl
  have obm9 : OB m9 o 0 := by rw [em9]; exact aln_ob obm8 (o_lt0 hm8 (by decide))
  have ob33m9 : OB m9 (o + 33) 4 := ⟨o_pos ho (by decide), by rw [em9, ← hn33]; exact aln_1⟩
  refine v_dup_A F dX0_init_67 ?_
  refine v_callI F dX0_init_68 cn_X0_41 rfl ob33m9.1 (vm_X4_init (o := (o + 33)) (hm9.trans (o_da rfl)) ob33m9) rfl (rOk.of rfl) ?_
  obtain ⟨m10, em10⟩ : ∃ z, z = al TSX4_init m9 := ⟨_, rfl⟩
  refine v_nM em10 ?_
  have hm10 : m10 0 0 = (o + 52) := by rw [em10]; exact al_nxo rfl hm9 ho (by decide) alX4_init rfl
  have obm10 : OB m10 o 0 := by rw [em10]; exact al_ob rfl obm9 (o_lt0 hm9 (by decide))
  have ob33m10 : OB m10 (o + 33) 4 := by rw [em10]; exact al_ob rfl ob33m9 (o_lt hm9 (by decide))
  obtain ⟨d9, ed9⟩ : ∃ z, z = wr (o + 33) WSX4_init d8 := ⟨_, rfl⟩
  refine v_nD ed9 ?_
  have f0d9 : d9 o 0 = (o + 1) := by rw [ed9, wr_lt rfl (o_l1 (by decide))]; exact f0d8
  have f3d9 : d9 o 3 = (o + 2) := by rw [ed9, wr_lt rfl (o_l1 (by decide))]; exact f3d8
  refine cpA F fz_X0_46 (fun h => by cases h) dX0_init_71 obm10 rfl rfl ?_
  obtain ⟨d10, ed10⟩ : ∃ z, z = st d9 o 8 (o + 33) := ⟨_, rfl⟩
  refine v_nD ed10 ?_
  have f0d10 : d10 o 0 = (o + 1) := by rw [ed10, st_nk (by decide)]; exact f0d9
  have f3d10 : d10 o 3 = (o + 2) := by rw [ed10, st_nk (by decide)]; exact f3d9
  refine v_aload_n F dX0_init_74 rfl rfl ?_
  refine v_iconst F dX0_init_75 ⟨by decide, by decide⟩ ?_
  refine cpI F fz_X0_49 (fun h => by cases h) dX0_init_76 obm10 rfl rfl ?_
  obtain ⟨d11, ed11⟩ : ∃ z, z = st d10 o 10 (-1) := ⟨_, rfl⟩
  refine v_nD ed11 ?_
  have f0d11 : d11 o 0 = (o + 1) := by rw [ed11, st_nk (by decide)]; exact f0d10
  have f3d11 : d11 o 3 = (o + 2) := by rw [ed11, st_nk (by decide)]; exact f3d10
  refine v_aload_n F dX0_init_79 rfl rfl ?_
  refine v_new (c := 7) (n := 3) F dX0_init_80 rfl (Nat.le_of_ble_eq_true rfl) rfl ok_X7 q682 q683 q292 in_X7 tyX7_ok (fun _ _ => trivial) (Nat.le_of_ble_eq_true rfl) (Nat.le_of_ble_eq_true rfl) hm10 ?_
  have hn52 : m10 0 0 = (o + 52) := hm10
  obtain ⟨m11, em11⟩ : ∃ z, z = aln m10 ((7 : Nat) + 1 : Int) 0 := ⟨_, rfl⟩
  refine v_nM em11 ?_
  have hm11 : m11 0 0 = (o + 53) := by rw [em11]; exact aln_nxo hm10 ho (by decide) rfl
  have obm11 : OB m11 o 0 := by rw [em11]; exact aln_ob obm10 (o_lt0 hm10 (by decide))
  have ob52m11 : OB m11 (o + 52) 7 := ⟨o_pos ho (by decide), by rw [em11, ← hn52]; exact aln_1⟩
  refine v_dup_A F dX0_init_83 ?_
  refine v_callI F dX0_init_84 cn_X0_55 rfl ob52m11.1 (vm_X7_init (o := (o + 52)) (hm11.trans (o_da rfl)) ob52m11) rfl (rOk.of rfl) ?_
  obtain ⟨m12, em12⟩ : ∃ z, z = al TSX7_init m11 := ⟨_, rfl⟩
  refine v_nM em12 ?_
  have hm12 : m12 0 0 = (o + 56) := by rw [em12]; exact al_nxo rfl hm11 ho (by decide) alX7_init rfl
  have obm12 : OB m12 o 0 := by rw [em12]; exact al_ob rfl obm11 (o_lt0 hm11 (by decide))
  have ob52m12 : OB m12 (o + 52) 7 := by rw [em12]; exact al_ob rfl ob52m11 (o_lt hm11 (by decide))
  obtain ⟨d12, ed12⟩ : ∃ z, z = wr (o + 52) WSX7_init d11 := ⟨_, rfl⟩
  refine v_nD ed12 ?_
  have f0d12 : d12 o 0 = (o + 1) := by rw [ed12, wr_lt rfl (o_l1 (by decide))]; exact f0d11
  have f3d12 : d12 o 3 = (o + 2) := by rw [ed12, wr_lt rfl (o_l1 (by decide))]; exact f3d11
  refine cpA F fz_X0_56 (fun _ => hnm) dX0_init_87 obm12 rfl rfl ?_
  obtain ⟨d13, ed13⟩ : ∃ z, z = st d12 o 11 (o + 52) := ⟨_, rfl⟩
  refine v_nD ed13 ?_
  have f0d13 : d13 o 0 = (o + 1) := by rw [ed13, st_nk (by decide)]; exact f0d12
  have f3d13 : d13 o 3 = (o + 2) := by rw [ed13, st_nk (by decide)]; exact f3d12
  refine v_aload_n F dX0_init_90 rfl rfl ?_
  refine v_bipush F dX0_init_91 rfl ⟨by decide, by decide⟩ ?_
  refine v_anew (t := 110) (C := "ElectionHouse$Contest") F dX0_init_93 rfl ⟨by decide, by decide⟩ rfl q698 q699 ⟨by decide, by decide⟩ (fun _ _ => trivial) (Nat.le_of_ble_eq_true rfl) (ks' := 25152) rfl (Nat.le_of_ble_eq_true rfl) hm12 ?_
  obtain ⟨m13, em13⟩ : ∃ z, z = aln m12 ((110 : Nat) : Int) 6 := ⟨_, rfl⟩
  refine v_nM em13 ?_
  have hm13 : m13 0 0 = (o + 57) := by rw [em13]; exact aln_nxo hm12 ho (by decide) rfl
  have obm13 : OB m13 o 0 := by rw [em13]; exact aln_ob obm12 (o_lt0 hm12 (by decide))
  have ar56m13 : AR m13 (o + 56) 110 6 := ⟨o_pos ho (by decide), by rw [em13, ← hm12]; exact aln_1, by rw [em13, ← hm12]; exact aln_2⟩
  refine cpA F fz_X0_62 (fun _ => hnm) dX0_init_96 obm13 rfl rfl ?_
  obtain ⟨d14, ed14⟩ : ∃ z, z = st d13 o 13 (o + 56) := ⟨_, rfl⟩
  refine v_nD ed14 ?_
  have f0d14 : d14 o 0 = (o + 1) := by rw [ed14, st_nk (by decide)]; exact f0d13
  have f3d14 : d14 o 3 = (o + 2) := by rw [ed14, st_nk (by decide)]; exact f3d13
  have f13d14 : d14 o 13 = (o + 56) := by rw [ed14, st_eq]
  refine v_aload_n F dX0_init_99 rfl rfl ?_
  refine v_bipush F dX0_init_100 rfl ⟨by decide, by decide⟩ ?_
  refine v_anew (t := 111) (C := "ElectionHouse$Nomination") F dX0_init_102 rfl ⟨by decide, by decide⟩ rfl q700 q701 ⟨by decide, by decide⟩ (fun _ _ => trivial) (Nat.le_of_ble_eq_true rfl) (ks' := 25206) rfl (Nat.le_of_ble_eq_true rfl) hm13 ?_
  obtain ⟨m14, em14⟩ : ∃ z, z = aln m13 ((111 : Nat) : Int) 54 := ⟨_, rfl⟩
  refine v_nM em14 ?_
  have hm14 : m14 0 0 = (o + 58) := by rw [em14]; exact aln_nxo hm13 ho (by decide) rfl
  have obm14 : OB m14 o 0 := by rw [em14]; exact aln_ob obm13 (o_lt0 hm13 (by decide))
  have ar56m14 : AR m14 (o + 56) 110 6 := by rw [em14]; exact aln_ar ar56m13 (o_lt hm13 (by decide))
  refine cpA F fz_X0_68 (fun _ => hnm) dX0_init_105 obm14 rfl rfl ?_
  obtain ⟨d15, ed15⟩ : ∃ z, z = st d14 o 14 (o + 57) := ⟨_, rfl⟩
  refine v_nD ed15 ?_
  have f0d15 : d15 o 0 = (o + 1) := by rw [ed15, st_nk (by decide)]; exact f0d14
  have f3d15 : d15 o 3 = (o + 2) := by rw [ed15, st_nk (by decide)]; exact f3d14
  have f13d15 : d15 o 13 = (o + 56) := by rw [ed15, st_nk (by decide)]; exact f13d14
  refine v_aload_n F dX0_init_108 rfl rfl ?_
  refine v_bipush F dX0_init_109 rfl ⟨by decide, by decide⟩ ?_
  refine v_newa (t := 101) (ty := .int) F dX0_init_111 rfl rfl ⟨by decide, by decide⟩ rfl (fun _ _ => rfl) rfl q348 ⟨by decide, by decide⟩ (by decide) (fun _ _ => trivial) (Nat.le_of_ble_eq_true rfl) (ks' := 25266) rfl (Nat.le_of_ble_eq_true rfl) hm14 ?_
  obtain ⟨m15, em15⟩ : ∃ z, z = aln m14 ((101 : Nat) : Int) 60 := ⟨_, rfl⟩
  refine v_nM em15 ?_
  have hm15 : m15 0 0 = (o + 59) := by rw [em15]; exact aln_nxo hm14 ho (by decide) rfl
  have obm15 : OB m15 o 0 := by rw [em15]; exact aln_ob obm14 (o_lt0 hm14 (by decide))
  have ar56m15 : AR m15 (o + 56) 110 6 := by rw [em15]; exact aln_ar ar56m14 (o_lt hm14 (by decide))
  refine cpA F fz_X0_72 (fun _ => hnm) dX0_init_113 obm15 rfl rfl ?_
  obtain ⟨d16, ed16⟩ : ∃ z, z = st d15 o 16 (o + 58) := ⟨_, rfl⟩
  refine v_nD ed16 ?_
  have f0d16 : d16 o 0 = (o + 1) := by rw [ed16, st_nk (by decide)]; exact f0d15
  have f3d16 : d16 o 3 = (o + 2) := by rw [ed16, st_nk (by decide)]; exact f3d15
  have f13d16 : d16 o 13 = (o + 56) := by rw [ed16, st_nk (by decide)]; exact f13d15
  refine v_aload_n F dX0_init_116 rfl rfl ?_
  refine v_bipush F dX0_init_117 rfl ⟨by decide, by decide⟩ ?_
  refine v_newa (t := 101) (ty := .int) F dX0_init_119 rfl rfl ⟨by decide, by decide⟩ rfl (fun _ _ => rfl) rfl q348 ⟨by decide, by decide⟩ (by decide) (fun _ _ => trivial) (Nat.le_of_ble_eq_true rfl) (ks' := 25326) rfl (Nat.le_of_ble_eq_true rfl) hm15 ?_
  obtain ⟨m16, em16⟩ : ∃ z, z = aln m15 ((101 : Nat) : Int) 60 := ⟨_, rfl⟩
  refine v_nM em16 ?_
  have hm16 : m16 0 0 = (o + 60) := by rw [em16]; exact aln_nxo hm15 ho (by decide) rfl
  have obm16 : OB m16 o 0 := by rw [em16]; exact aln_ob obm15 (o_lt0 hm15 (by decide))
  have ar56m16 : AR m16 (o + 56) 110 6 := by rw [em16]; exact aln_ar ar56m15 (o_lt hm15 (by decide))
  refine cpA F fz_X0_76 (fun _ => hnm) dX0_init_121 obm16 rfl rfl ?_
  obtain ⟨d17, ed17⟩ : ∃ z, z = st d16 o 18 (o + 59) := ⟨_, rfl⟩
  refine v_nD ed17 ?_
  have f0d17 : d17 o 0 = (o + 1) := by rw [ed17, st_nk (by decide)]; exact f0d16
  have f3d17 : d17 o 3 = (o + 2) := by rw [ed17, st_nk (by decide)]; exact f3d16
  have f13d17 : d17 o 13 = (o + 56) := by rw [ed17, st_nk (by decide)]; exact f13d16
  refine v_aload_n F dX0_init_124 rfl rfl ?_
  refine v_bipush F dX0_init_125 rfl ⟨by decide, by decide⟩ ?_
  refine v_newa (t := 101) (ty := .int) F dX0_init_127 rfl rfl ⟨by decide, by decide⟩ rfl (fun _ _ => rfl) rfl q348 ⟨by decide, by decide⟩ (by decide) (fun _ _ => trivial) (Nat.le_of_ble_eq_true rfl) (ks' := 25386) rfl (Nat.le_of_ble_eq_true rfl) hm16 ?_
  obtain ⟨m17, em17⟩ : ∃ z, z = aln m16 ((101 : Nat) : Int) 60 := ⟨_, rfl⟩
  refine v_nM em17 ?_
  have hm17 : m17 0 0 = (o + 61) := by rw [em17]; exact aln_nxo hm16 ho (by decide) rfl
  have obm17 : OB m17 o 0 := by rw [em17]; exact aln_ob obm16 (o_lt0 hm16 (by decide))
  have ar56m17 : AR m17 (o + 56) 110 6 := by rw [em17]; exact aln_ar ar56m16 (o_lt hm16 (by decide))
  refine cpA F fz_X0_79 (fun _ => hnm) dX0_init_129 obm17 rfl rfl ?_
  obtain ⟨d18, ed18⟩ : ∃ z, z = st d17 o 19 (o + 60) := ⟨_, rfl⟩
  refine v_nD ed18 ?_
  have f0d18 : d18 o 0 = (o + 1) := by rw [ed18, st_nk (by decide)]; exact f0d17
  have f3d18 : d18 o 3 = (o + 2) := by rw [ed18, st_nk (by decide)]; exact f3d17
  have f13d18 : d18 o 13 = (o + 56) := by rw [ed18, st_nk (by decide)]; exact f13d17
  refine v_aload_n F dX0_init_132 rfl rfl ?_
  refine v_bipush F dX0_init_133 rfl ⟨by decide, by decide⟩ ?_
  refine v_newa (t := 103) (ty := .boolean) F dX0_init_135 rfl rfl ⟨by decide, by decide⟩ rfl (fun _ _ => rfl) rfl q533 ⟨by decide, by decide⟩ (by decide) (fun _ _ => trivial) (Nat.le_of_ble_eq_true rfl) (ks' := 25446) rfl (Nat.le_of_ble_eq_true rfl) hm17 ?_
  obtain ⟨m18, em18⟩ : ∃ z, z = aln m17 ((103 : Nat) : Int) 60 := ⟨_, rfl⟩
  refine v_nM em18 ?_
  have hm18 : m18 0 0 = (o + 62) := by rw [em18]; exact aln_nxo hm17 ho (by decide) rfl
  have obm18 : OB m18 o 0 := by rw [em18]; exact aln_ob obm17 (o_lt0 hm17 (by decide))
  have ar56m18 : AR m18 (o + 56) 110 6 := by rw [em18]; exact aln_ar ar56m17 (o_lt hm17 (by decide))
  refine cpA F fz_X0_82 (fun _ => hnm) dX0_init_137 obm18 rfl rfl ?_
  obtain ⟨d19, ed19⟩ : ∃ z, z = st d18 o 20 (o + 61) := ⟨_, rfl⟩
  refine v_nD ed19 ?_
  have f0d19 : d19 o 0 = (o + 1) := by rw [ed19, st_nk (by decide)]; exact f0d18
  have f3d19 : d19 o 3 = (o + 2) := by rw [ed19, st_nk (by decide)]; exact f3d18
  have f13d19 : d19 o 13 = (o + 56) := by rw [ed19, st_nk (by decide)]; exact f13d18
  refine v_aload_n F dX0_init_140 rfl rfl ?_
  refine v_bipush F dX0_init_141 rfl ⟨by decide, by decide⟩ ?_
  refine v_newa (t := 101) (ty := .int) F dX0_init_143 rfl rfl ⟨by decide, by decide⟩ rfl (fun _ _ => rfl) rfl q348 ⟨by decide, by decide⟩ (by decide) (fun _ _ => trivial) (Nat.le_of_ble_eq_true rfl) (ks' := 25506) rfl (Nat.le_of_ble_eq_true rfl) hm18 ?_
  obtain ⟨m19, em19⟩ : ∃ z, z = aln m18 ((101 : Nat) : Int) 60 := ⟨_, rfl⟩
  refine v_nM em19 ?_
  have hm19 : m19 0 0 = (o + 63) := by rw [em19]; exact aln_nxo hm18 ho (by decide) rfl
  have obm19 : OB m19 o 0 := by rw [em19]; exact aln_ob obm18 (o_lt0 hm18 (by decide))
  have ar56m19 : AR m19 (o + 56) 110 6 := by rw [em19]; exact aln_ar ar56m18 (o_lt hm18 (by decide))
  refine cpA F fz_X0_86 (fun _ => hnm) dX0_init_145 obm19 rfl rfl ?_
  obtain ⟨d20, ed20⟩ : ∃ z, z = st d19 o 22 (o + 62) := ⟨_, rfl⟩
  refine v_nD ed20 ?_
  have f0d20 : d20 o 0 = (o + 1) := by rw [ed20, st_nk (by decide)]; exact f0d19
  have f3d20 : d20 o 3 = (o + 2) := by rw [ed20, st_nk (by decide)]; exact f3d19
  have f13d20 : d20 o 13 = (o + 56) := by rw [ed20, st_nk (by decide)]; exact f13d19
  refine v_aload_n F dX0_init_148 rfl rfl ?_
  refine v_bipush F dX0_init_149 rfl ⟨by decide, by decide⟩ ?_
  refine v_newa (t := 101) (ty := .int) F dX0_init_151 rfl rfl ⟨by decide, by decide⟩ rfl (fun _ _ => rfl) rfl q348 ⟨by decide, by decide⟩ (by decide) (fun _ _ => trivial) (Nat.le_of_ble_eq_true rfl) (ks' := 25566) rfl (Nat.le_of_ble_eq_true rfl) hm19 ?_
  obtain ⟨m20, em20⟩ : ∃ z, z = aln m19 ((101 : Nat) : Int) 60 := ⟨_, rfl⟩
  refine v_nM em20 ?_
  have hm20 : m20 0 0 = (o + 64) := by rw [em20]; exact aln_nxo hm19 ho (by decide) rfl
  have obm20 : OB m20 o 0 := by rw [em20]; exact aln_ob obm19 (o_lt0 hm19 (by decide))
  have ar56m20 : AR m20 (o + 56) 110 6 := by rw [em20]; exact aln_ar ar56m19 (o_lt hm19 (by decide))
  refine cpA F fz_X0_89 (fun _ => hnm) dX0_init_153 obm20 rfl rfl ?_
  obtain ⟨d21, ed21⟩ : ∃ z, z = st d20 o 23 (o + 63) := ⟨_, rfl⟩
  refine v_nD ed21 ?_
  have f0d21 : d21 o 0 = (o + 1) := by rw [ed21, st_nk (by decide)]; exact f0d20
  have f3d21 : d21 o 3 = (o + 2) := by rw [ed21, st_nk (by decide)]; exact f3d20
  have f13d21 : d21 o 13 = (o + 56) := by rw [ed21, st_nk (by decide)]; exact f13d20
  refine v_aload_n F dX0_init_156 rfl rfl ?_
  refine v_bipush F dX0_init_157 rfl ⟨by decide, by decide⟩ ?_
  refine v_newa (t := 101) (ty := .int) F dX0_init_159 rfl rfl ⟨by decide, by decide⟩ rfl (fun _ _ => rfl) rfl q348 ⟨by decide, by decide⟩ (by decide) (fun _ _ => trivial) (Nat.le_of_ble_eq_true rfl) (ks' := 25626) rfl (Nat.le_of_ble_eq_true rfl) hm20 ?_
  obtain ⟨m21, em21⟩ : ∃ z, z = aln m20 ((101 : Nat) : Int) 60 := ⟨_, rfl⟩
  refine v_nM em21 ?_
  have hm21 : m21 0 0 = (o + 65) := by rw [em21]; exact aln_nxo hm20 ho (by decide) rfl
  have obm21 : OB m21 o 0 := by rw [em21]; exact aln_ob obm20 (o_lt0 hm20 (by decide))
  have ar56m21 : AR m21 (o + 56) 110 6 := by rw [em21]; exact aln_ar ar56m20 (o_lt hm20 (by decide))
  refine cpA F fz_X0_92 (fun _ => hnm) dX0_init_161 obm21 rfl rfl ?_
  obtain ⟨d22, ed22⟩ : ∃ z, z = st d21 o 24 (o + 64) := ⟨_, rfl⟩
  refine v_nD ed22 ?_
  have f0d22 : d22 o 0 = (o + 1) := by rw [ed22, st_nk (by decide)]; exact f0d21
  have f3d22 : d22 o 3 = (o + 2) := by rw [ed22, st_nk (by decide)]; exact f3d21
  have f13d22 : d22 o 13 = (o + 56) := by rw [ed22, st_nk (by decide)]; exact f13d21
  refine v_aload_n F dX0_init_164 rfl rfl ?_
  refine v_bipush F dX0_init_165 rfl ⟨by decide, by decide⟩ ?_
  refine v_newa (t := 103) (ty := .boolean) F dX0_init_167 rfl rfl ⟨by decide, by decide⟩ rfl (fun _ _ => rfl) rfl q533 ⟨by decide, by decide⟩ (by decide) (fun _ _ => trivial) (Nat.le_of_ble_eq_true rfl) (ks' := 25686) rfl (Nat.le_of_ble_eq_true rfl) hm21 ?_
  obtain ⟨m22, em22⟩ : ∃ z, z = aln m21 ((103 : Nat) : Int) 60 := ⟨_, rfl⟩
  refine v_nM em22 ?_
  have hm22 : m22 0 0 = (o + 66) := by rw [em22]; exact aln_nxo hm21 ho (by decide) rfl
  have obm22 : OB m22 o 0 := by rw [em22]; exact aln_ob obm21 (o_lt0 hm21 (by decide))
  have ar56m22 : AR m22 (o + 56) 110 6 := by rw [em22]; exact aln_ar ar56m21 (o_lt hm21 (by decide))
  refine cpA F fz_X0_95 (fun _ => hnm) dX0_init_169 obm22 rfl rfl ?_
  obtain ⟨d23, ed23⟩ : ∃ z, z = st d22 o 25 (o + 65) := ⟨_, rfl⟩
  refine v_nD ed23 ?_
  have f0d23 : d23 o 0 = (o + 1) := by rw [ed23, st_nk (by decide)]; exact f0d22
  have f3d23 : d23 o 3 = (o + 2) := by rw [ed23, st_nk (by decide)]; exact f3d22
  have f13d23 : d23 o 13 = (o + 56) := by rw [ed23, st_nk (by decide)]; exact f13d22
  refine v_aload_n F dX0_init_172 rfl rfl ?_
  refine v_bipush F dX0_init_173 rfl ⟨by decide, by decide⟩ ?_
  refine v_newa (t := 101) (ty := .int) F dX0_init_175 rfl rfl ⟨by decide, by decide⟩ rfl (fun _ _ => rfl) rfl q348 ⟨by decide, by decide⟩ (by decide) (fun _ _ => trivial) (Nat.le_of_ble_eq_true rfl) (ks' := 25692) rfl (Nat.le_of_ble_eq_true rfl) hm22 ?_
  obtain ⟨m23, em23⟩ : ∃ z, z = aln m22 ((101 : Nat) : Int) 6 := ⟨_, rfl⟩
  refine v_nM em23 ?_
  have hm23 : m23 0 0 = (o + 67) := by rw [em23]; exact aln_nxo hm22 ho (by decide) rfl
  have obm23 : OB m23 o 0 := by rw [em23]; exact aln_ob obm22 (o_lt0 hm22 (by decide))
  have ar56m23 : AR m23 (o + 56) 110 6 := by rw [em23]; exact aln_ar ar56m22 (o_lt hm22 (by decide))
  refine cpA F fz_X0_98 (fun _ => hnm) dX0_init_177 obm23 rfl rfl ?_
  obtain ⟨d24, ed24⟩ : ∃ z, z = st d23 o 27 (o + 66) := ⟨_, rfl⟩
  refine v_nD ed24 ?_
  have f0d24 : d24 o 0 = (o + 1) := by rw [ed24, st_nk (by decide)]; exact f0d23
  have f3d24 : d24 o 3 = (o + 2) := by rw [ed24, st_nk (by decide)]; exact f3d23
  have f13d24 : d24 o 13 = (o + 56) := by rw [ed24, st_nk (by decide)]; exact f13d23
  refine v_aload_n F dX0_init_180 rfl rfl ?_
  refine v_bipush F dX0_init_181 rfl ⟨by decide, by decide⟩ ?_
  refine v_newa (t := 103) (ty := .boolean) F dX0_init_183 rfl rfl ⟨by decide, by decide⟩ rfl (fun _ _ => rfl) rfl q533 ⟨by decide, by decide⟩ (by decide) (fun _ _ => trivial) (Nat.le_of_ble_eq_true rfl) (ks' := 25698) rfl (Nat.le_of_ble_eq_true rfl) hm23 ?_
  obtain ⟨m24, em24⟩ : ∃ z, z = aln m23 ((103 : Nat) : Int) 6 := ⟨_, rfl⟩
  refine v_nM em24 ?_
  have hm24 : m24 0 0 = (o + 68) := by rw [em24]; exact aln_nxo hm23 ho (by decide) rfl
  have obm24 : OB m24 o 0 := by rw [em24]; exact aln_ob obm23 (o_lt0 hm23 (by decide))
  have ar56m24 : AR m24 (o + 56) 110 6 := by rw [em24]; exact aln_ar ar56m23 (o_lt hm23 (by decide))
  refine cpA F fz_X0_101 (fun _ => hnm) dX0_init_185 obm24 rfl rfl ?_
  obtain ⟨d25, ed25⟩ : ∃ z, z = st d24 o 28 (o + 67) := ⟨_, rfl⟩
  refine v_nD ed25 ?_
  have f0d25 : d25 o 0 = (o + 1) := by rw [ed25, st_nk (by decide)]; exact f0d24
  have f3d25 : d25 o 3 = (o + 2) := by rw [ed25, st_nk (by decide)]; exact f3d24
  have f13d25 : d25 o 13 = (o + 56) := by rw [ed25, st_nk (by decide)]; exact f13d24
  refine v_aload_n F dX0_init_188 rfl rfl ?_
  refine v_bipush F dX0_init_189 rfl ⟨by decide, by decide⟩ ?_
  refine v_sipush F dX0_init_191 rfl ⟨by decide, by decide⟩ ?_
  refine v_multi (t := 106) (t2 := 102) (ty := .byte) F dX0_init_194 rfl rfl ⟨by decide, by decide⟩ ⟨by decide, by decide⟩ rfl rfl (fun _ _ => rfl) rfl (by decide) (by decide) (by decide) q702 q703 q347 (by decide) ⟨by decide, by decide⟩ ⟨by decide, by decide⟩ (fun _ _ => trivial) (kc' := 74) rfl (Nat.le_of_ble_eq_true rfl) (ks' := 26904) rfl (Nat.le_of_ble_eq_true rfl) hm24 ?_
  rw [hm24]
  obtain ⟨m25, em25⟩ : ∃ z, z = mlt m24 ((106 : Nat) : Int) 6 ((102 : Nat) : Int) 200 := ⟨_, rfl⟩
  refine v_nM em25 ?_
  have hm25 : m25 0 0 = (o + 75) := by rw [em25]; exact mlt_nxo hm24 ho (by decide) rfl
  have obm25 : OB m25 o 0 := by rw [em25]; exact mlt_ob obm24 (o_lt0 hm24 (by decide)) (by decide)
  have ar56m25 : AR m25 (o + 56) 110 6 := by rw [em25]; exact mlt_ar ar56m24 (o_lt hm24 (by decide)) (by decide)
  obtain ⟨d26, ed26⟩ : ∃ z, z = mlD d25 (o + 68) 6 := ⟨_, rfl⟩
  refine v_nD ed26 ?_
  have f0d26 : d26 o 0 = (o + 1) := by rw [ed26, mlD_ne (o_ne (by decide))]; exact f0d25
  have f3d26 : d26 o 3 = (o + 2) := by rw [ed26, mlD_ne (o_ne (by decide))]; exact f3d25
  have f13d26 : d26 o 13 = (o + 56) := by rw [ed26, mlD_ne (o_ne (by decide))]; exact f13d25
  refine cpA F fz_X0_106 (fun _ => hnm) dX0_init_198 obm25 rfl rfl ?_
  obtain ⟨d27, ed27⟩ : ∃ z, z = st d26 o 29 (o + 68) := ⟨_, rfl⟩
  refine v_nD ed27 ?_
  have f0d27 : d27 o 0 = (o + 1) := by rw [ed27, st_nk (by decide)]; exact f0d26
  have f3d27 : d27 o 3 = (o + 2) := by rw [ed27, st_nk (by decide)]; exact f3d26
  have f13d27 : d27 o 13 = (o + 56) := by rw [ed27, st_nk (by decide)]; exact f13d26
  refine v_aload_n F dX0_init_201 rfl rfl ?_
  refine v_sipush F dX0_init_202 rfl ⟨by decide, by decide⟩ ?_
  refine v_anew (t := 112) (C := "ElectionHouse$Issue") F dX0_init_205 rfl ⟨by decide, by decide⟩ rfl q704 q705 ⟨by decide, by decide⟩ (fun _ _ => trivial) (Nat.le_of_ble_eq_true rfl) (ks' := 27104) rfl (Nat.le_of_ble_eq_true rfl) hm25 ?_
  obtain ⟨m26, em26⟩ : ∃ z, z = aln m25 ((112 : Nat) : Int) 200 := ⟨_, rfl⟩
  refine v_nM em26 ?_
  have hm26 : m26 0 0 = (o + 76) := by rw [em26]; exact aln_nxo hm25 ho (by decide) rfl
  have obm26 : OB m26 o 0 := by rw [em26]; exact aln_ob obm25 (o_lt0 hm25 (by decide))
  have ar56m26 : AR m26 (o + 56) 110 6 := by rw [em26]; exact aln_ar ar56m25 (o_lt hm25 (by decide))
  refine cpA F fz_X0_111 (fun _ => hnm) dX0_init_208 obm26 rfl rfl ?_
  obtain ⟨d28, ed28⟩ : ∃ z, z = st d27 o 31 (o + 75) := ⟨_, rfl⟩
  refine v_nD ed28 ?_
  have f0d28 : d28 o 0 = (o + 1) := by rw [ed28, st_nk (by decide)]; exact f0d27
  have f3d28 : d28 o 3 = (o + 2) := by rw [ed28, st_nk (by decide)]; exact f3d27
  have f13d28 : d28 o 13 = (o + 56) := by rw [ed28, st_nk (by decide)]; exact f13d27
  refine v_aload_n F dX0_init_211 rfl rfl ?_
  refine v_sipush F dX0_init_212 rfl ⟨by decide, by decide⟩ ?_
  refine v_anew (t := 112) (C := "ElectionHouse$Issue") F dX0_init_215 rfl ⟨by decide, by decide⟩ rfl q704 q705 ⟨by decide, by decide⟩ (fun _ _ => trivial) (Nat.le_of_ble_eq_true rfl) (ks' := 27304) rfl (Nat.le_of_ble_eq_true rfl) hm26 ?_
  obtain ⟨m27, em27⟩ : ∃ z, z = aln m26 ((112 : Nat) : Int) 200 := ⟨_, rfl⟩
  refine v_nM em27 ?_
  have hm27 : m27 0 0 = (o + 77) := by rw [em27]; exact aln_nxo hm26 ho (by decide) rfl
  have obm27 : OB m27 o 0 := by rw [em27]; exact aln_ob obm26 (o_lt0 hm26 (by decide))
  have ar56m27 : AR m27 (o + 56) 110 6 := by rw [em27]; exact aln_ar ar56m26 (o_lt hm26 (by decide))
  refine cpA F fz_X0_115 (fun _ => hnm) dX0_init_218 obm27 rfl rfl ?_
  obtain ⟨d29, ed29⟩ : ∃ z, z = st d28 o 33 (o + 76) := ⟨_, rfl⟩
  refine v_nD ed29 ?_
  have f0d29 : d29 o 0 = (o + 1) := by rw [ed29, st_nk (by decide)]; exact f0d28
  have f3d29 : d29 o 3 = (o + 2) := by rw [ed29, st_nk (by decide)]; exact f3d28
  have f13d29 : d29 o 13 = (o + 56) := by rw [ed29, st_nk (by decide)]; exact f13d28
  refine v_aload_n F dX0_init_221 rfl rfl ?_
  refine v_bipush F dX0_init_222 rfl ⟨by decide, by decide⟩ ?_
  refine v_anew (t := 113) (C := "ElectionHouse$Box") F dX0_init_224 rfl ⟨by decide, by decide⟩ rfl q706 q707 ⟨by decide, by decide⟩ (fun _ _ => trivial) (Nat.le_of_ble_eq_true rfl) (ks' := 27311) rfl (Nat.le_of_ble_eq_true rfl) hm27 ?_
  obtain ⟨m28, em28⟩ : ∃ z, z = aln m27 ((113 : Nat) : Int) 7 := ⟨_, rfl⟩
  refine v_nM em28 ?_
  have hm28 : m28 0 0 = (o + 78) := by rw [em28]; exact aln_nxo hm27 ho (by decide) rfl
  have obm28 : OB m28 o 0 := by rw [em28]; exact aln_ob obm27 (o_lt0 hm27 (by decide))
  have ar56m28 : AR m28 (o + 56) 110 6 := by rw [em28]; exact aln_ar ar56m27 (o_lt hm27 (by decide))
  have ar77m28 : AR m28 (o + 77) 113 7 := ⟨o_pos ho (by decide), by rw [em28, ← hm27]; exact aln_1, by rw [em28, ← hm27]; exact aln_2⟩
  refine cpA F fz_X0_120 (fun _ => hnm) dX0_init_227 obm28 rfl rfl ?_
  obtain ⟨d30, ed30⟩ : ∃ z, z = st d29 o 34 (o + 77) := ⟨_, rfl⟩
  refine v_nD ed30 ?_
  have f0d30 : d30 o 0 = (o + 1) := by rw [ed30, st_nk (by decide)]; exact f0d29
  have f3d30 : d30 o 3 = (o + 2) := by rw [ed30, st_nk (by decide)]; exact f3d29
  have f13d30 : d30 o 13 = (o + 56) := by rw [ed30, st_nk (by decide)]; exact f13d29
  have f34d30 : d30 o 34 = (o + 77) := by rw [ed30, st_eq]
  refine v_aload_n F dX0_init_230 rfl rfl ?_
  refine v_new (c := 8) (n := 54) F dX0_init_231 rfl (Nat.le_of_ble_eq_true rfl) rfl ok_X8 q708 q709 q293 in_X8 tyX8_ok (fun _ _ => trivial) (Nat.le_of_ble_eq_true rfl) (Nat.le_of_ble_eq_true rfl) hm28 ?_
  have hn78 : m28 0 0 = (o + 78) := hm28
  obtain ⟨m29, em29⟩ : ∃ z, z = aln m28 ((8 : Nat) + 1 : Int) 0 := ⟨_, rfl⟩
  refine v_nM em29 ?_
  have hm29 : m29 0 0 = (o + 79) := by rw [em29]; exact aln_nxo hm28 ho (by decide) rfl
  have obm29 : OB m29 o 0 := by rw [em29]; exact aln_ob obm28 (o_lt0 hm28 (by decide))
  have ar56m29 : AR m29 (o + 56) 110 6 := by rw [em29]; exact aln_ar ar56m28 (o_lt hm28 (by decide))
  have ar77m29 : AR m29 (o + 77) 113 7 := by rw [em29]; exact aln_ar ar77m28 (o_lt hm28 (by decide))
  have ob78m29 : OB m29 (o + 78) 8 := ⟨o_pos ho (by decide), by rw [em29, ← hn78]; exact aln_1⟩
  refine v_dup_A F dX0_init_234 ?_
  refine v_callI F dX0_init_235 cn_X0_126 rfl ob78m29.1 (vm_X8_init (o := (o + 78)) (hm29.trans (o_da rfl)) ob78m29) rfl (rOk.of rfl) ?_
  obtain ⟨m30, em30⟩ : ∃ z, z = al TSX8_init m29 := ⟨_, rfl⟩
  refine v_nM em30 ?_
  have hm30 : m30 0 0 = (o + 320) := by rw [em30]; exact al_nxo rfl hm29 ho (by decide) alX8_init rfl
  have obm30 : OB m30 o 0 := by rw [em30]; exact al_ob rfl obm29 (o_lt0 hm29 (by decide))
  have ar56m30 : AR m30 (o + 56) 110 6 := by rw [em30]; exact al_ar rfl ar56m29 (o_lt hm29 (by decide))
  have ar77m30 : AR m30 (o + 77) 113 7 := by rw [em30]; exact al_ar rfl ar77m29 (o_lt hm29 (by decide))
  have ob78m30 : OB m30 (o + 78) 8 := by rw [em30]; exact al_ob rfl ob78m29 (o_lt hm29 (by decide))
  obtain ⟨d31, ed31⟩ : ∃ z, z = wr (o + 78) WSX8_init d30 := ⟨_, rfl⟩
  refine v_nD ed31 ?_
  have f0d31 : d31 o 0 = (o + 1) := by rw [ed31, wr_lt rfl (o_l1 (by decide))]; exact f0d30
  have f3d31 : d31 o 3 = (o + 2) := by rw [ed31, wr_lt rfl (o_l1 (by decide))]; exact f3d30
  have f13d31 : d31 o 13 = (o + 56) := by rw [ed31, wr_lt rfl (o_l1 (by decide))]; exact f13d30
  have f34d31 : d31 o 34 = (o + 77) := by rw [ed31, wr_lt rfl (o_l1 (by decide))]; exact f34d30
  refine cpA F fz_X0_127 (fun _ => hnm) dX0_init_238 obm30 rfl rfl ?_
  obtain ⟨d32, ed32⟩ : ∃ z, z = st d31 o 35 (o + 78) := ⟨_, rfl⟩
  refine v_nD ed32 ?_
  have f0d32 : d32 o 0 = (o + 1) := by rw [ed32, st_nk (by decide)]; exact f0d31
  have f3d32 : d32 o 3 = (o + 2) := by rw [ed32, st_nk (by decide)]; exact f3d31
  have f13d32 : d32 o 13 = (o + 56) := by rw [ed32, st_nk (by decide)]; exact f13d31
  have f34d32 : d32 o 34 = (o + 77) := by rw [ed32, st_nk (by decide)]; exact f34d31
  refine v_aload_n F dX0_init_241 rfl rfl ?_
  refine v_new (c := 8) (n := 54) F dX0_init_242 rfl (Nat.le_of_ble_eq_true rfl) rfl ok_X8 q708 q709 q293 in_X8 tyX8_ok (fun _ _ => trivial) (Nat.le_of_ble_eq_true rfl) (Nat.le_of_ble_eq_true rfl) hm30 ?_
  have hn320 : m30 0 0 = (o + 320) := hm30
  obtain ⟨m31, em31⟩ : ∃ z, z = aln m30 ((8 : Nat) + 1 : Int) 0 := ⟨_, rfl⟩
  refine v_nM em31 ?_
  have hm31 : m31 0 0 = (o + 321) := by rw [em31]; exact aln_nxo hm30 ho (by decide) rfl
  have obm31 : OB m31 o 0 := by rw [em31]; exact aln_ob obm30 (o_lt0 hm30 (by decide))
  have ar56m31 : AR m31 (o + 56) 110 6 := by rw [em31]; exact aln_ar ar56m30 (o_lt hm30 (by decide))
  have ar77m31 : AR m31 (o + 77) 113 7 := by rw [em31]; exact aln_ar ar77m30 (o_lt hm30 (by decide))
  have ob320m31 : OB m31 (o + 320) 8 := ⟨o_pos ho (by decide), by rw [em31, ← hn320]; exact aln_1⟩
  refine v_dup_A F dX0_init_245 ?_
  refine v_callI F dX0_init_246 cn_X0_126 rfl ob320m31.1 (vm_X8_init (o := (o + 320)) (hm31.trans (o_da rfl)) ob320m31) rfl (rOk.of rfl) ?_
  obtain ⟨m32, em32⟩ : ∃ z, z = al TSX8_init m31 := ⟨_, rfl⟩
  refine v_nM em32 ?_
  have hm32 : m32 0 0 = (o + 562) := by rw [em32]; exact al_nxo rfl hm31 ho (by decide) alX8_init rfl
  have obm32 : OB m32 o 0 := by rw [em32]; exact al_ob rfl obm31 (o_lt0 hm31 (by decide))
  have ar56m32 : AR m32 (o + 56) 110 6 := by rw [em32]; exact al_ar rfl ar56m31 (o_lt hm31 (by decide))
  have ar77m32 : AR m32 (o + 77) 113 7 := by rw [em32]; exact al_ar rfl ar77m31 (o_lt hm31 (by decide))
  have ob320m32 : OB m32 (o + 320) 8 := by rw [em32]; exact al_ob rfl ob320m31 (o_lt hm31 (by decide))
  obtain ⟨d33, ed33⟩ : ∃ z, z = wr (o + 320) WSX8_init d32 := ⟨_, rfl⟩
  refine v_nD ed33 ?_
  have f0d33 : d33 o 0 = (o + 1) := by rw [ed33, wr_lt rfl (o_l1 (by decide))]; exact f0d32
  have f3d33 : d33 o 3 = (o + 2) := by rw [ed33, wr_lt rfl (o_l1 (by decide))]; exact f3d32
  have f13d33 : d33 o 13 = (o + 56) := by rw [ed33, wr_lt rfl (o_l1 (by decide))]; exact f13d32
  have f34d33 : d33 o 34 = (o + 77) := by rw [ed33, wr_lt rfl (o_l1 (by decide))]; exact f34d32
  refine cpA F fz_X0_131 (fun _ => hnm) dX0_init_249 obm32 rfl rfl ?_
  obtain ⟨d34, ed34⟩ : ∃ z, z = st d33 o 36 (o + 320) := ⟨_, rfl⟩
  refine v_nD ed34 ?_
  have f0d34 : d34 o 0 = (o + 1) := by rw [ed34, st_nk (by decide)]; exact f0d33
  have f3d34 : d34 o 3 = (o + 2) := by rw [ed34, st_nk (by decide)]; exact f3d33
  have f13d34 : d34 o 13 = (o + 56) := by rw [ed34, st_nk (by decide)]; exact f13d33
  have f34d34 : d34 o 34 = (o + 77) := by rw [ed34, st_nk (by decide)]; exact f34d33
  refine v_aload_n F dX0_init_252 rfl rfl ?_
  refine v_bipush F dX0_init_253 rfl ⟨by decide, by decide⟩ ?_
  refine v_newa (t := 101) (ty := .int) F dX0_init_255 rfl rfl ⟨by decide, by decide⟩ rfl (fun _ _ => rfl) rfl q348 ⟨by decide, by decide⟩ (by decide) (fun _ _ => trivial) (Nat.le_of_ble_eq_true rfl) (ks' := 34023) rfl (Nat.le_of_ble_eq_true rfl) hm32 ?_
  obtain ⟨m33, em33⟩ : ∃ z, z = aln m32 ((101 : Nat) : Int) 60 := ⟨_, rfl⟩
  refine v_nM em33 ?_
  have hm33 : m33 0 0 = (o + 563) := by rw [em33]; exact aln_nxo hm32 ho (by decide) rfl
  have obm33 : OB m33 o 0 := by rw [em33]; exact aln_ob obm32 (o_lt0 hm32 (by decide))
  have ar56m33 : AR m33 (o + 56) 110 6 := by rw [em33]; exact aln_ar ar56m32 (o_lt hm32 (by decide))
  have ar77m33 : AR m33 (o + 77) 113 7 := by rw [em33]; exact aln_ar ar77m32 (o_lt hm32 (by decide))
  refine cpA F fz_X0_134 (fun _ => hnm) dX0_init_257 obm33 rfl rfl ?_
  obtain ⟨d35, ed35⟩ : ∃ z, z = st d34 o 38 (o + 562) := ⟨_, rfl⟩
  refine v_nD ed35 ?_
  have f0d35 : d35 o 0 = (o + 1) := by rw [ed35, st_nk (by decide)]; exact f0d34
  have f3d35 : d35 o 3 = (o + 2) := by rw [ed35, st_nk (by decide)]; exact f3d34
  have f13d35 : d35 o 13 = (o + 56) := by rw [ed35, st_nk (by decide)]; exact f13d34
  have f34d35 : d35 o 34 = (o + 77) := by rw [ed35, st_nk (by decide)]; exact f34d34
  refine v_aload_n F dX0_init_260 rfl rfl ?_
  refine v_bipush F dX0_init_261 rfl ⟨by decide, by decide⟩ ?_
  refine v_newa (t := 101) (ty := .int) F dX0_init_263 rfl rfl ⟨by decide, by decide⟩ rfl (fun _ _ => rfl) rfl q348 ⟨by decide, by decide⟩ (by decide) (fun _ _ => trivial) (Nat.le_of_ble_eq_true rfl) (ks' := 34083) rfl (Nat.le_of_ble_eq_true rfl) hm33 ?_
  obtain ⟨m34, em34⟩ : ∃ z, z = aln m33 ((101 : Nat) : Int) 60 := ⟨_, rfl⟩
  refine v_nM em34 ?_
  have hm34 : m34 0 0 = (o + 564) := by rw [em34]; exact aln_nxo hm33 ho (by decide) rfl
  have obm34 : OB m34 o 0 := by rw [em34]; exact aln_ob obm33 (o_lt0 hm33 (by decide))
  have ar56m34 : AR m34 (o + 56) 110 6 := by rw [em34]; exact aln_ar ar56m33 (o_lt hm33 (by decide))
  have ar77m34 : AR m34 (o + 77) 113 7 := by rw [em34]; exact aln_ar ar77m33 (o_lt hm33 (by decide))
  refine cpA F fz_X0_137 (fun _ => hnm) dX0_init_265 obm34 rfl rfl ?_
  obtain ⟨d36, ed36⟩ : ∃ z, z = st d35 o 39 (o + 563) := ⟨_, rfl⟩
  refine v_nD ed36 ?_
  have f0d36 : d36 o 0 = (o + 1) := by rw [ed36, st_nk (by decide)]; exact f0d35
  have f3d36 : d36 o 3 = (o + 2) := by rw [ed36, st_nk (by decide)]; exact f3d35
  have f13d36 : d36 o 13 = (o + 56) := by rw [ed36, st_nk (by decide)]; exact f13d35
  have f34d36 : d36 o 34 = (o + 77) := by rw [ed36, st_nk (by decide)]; exact f34d35
  refine v_aload_n F dX0_init_268 rfl rfl ?_
  refine v_bipush F dX0_init_269 rfl ⟨by decide, by decide⟩ ?_
  refine v_newa (t := 103) (ty := .boolean) F dX0_init_271 rfl rfl ⟨by decide, by decide⟩ rfl (fun _ _ => rfl) rfl q533 ⟨by decide, by decide⟩ (by decide) (fun _ _ => trivial) (Nat.le_of_ble_eq_true rfl) (ks' := 34143) rfl (Nat.le_of_ble_eq_true rfl) hm34 ?_
  obtain ⟨m35, em35⟩ : ∃ z, z = aln m34 ((103 : Nat) : Int) 60 := ⟨_, rfl⟩
  refine v_nM em35 ?_
  have hm35 : m35 0 0 = (o + 565) := by rw [em35]; exact aln_nxo hm34 ho (by decide) rfl
  have obm35 : OB m35 o 0 := by rw [em35]; exact aln_ob obm34 (o_lt0 hm34 (by decide))
  have ar56m35 : AR m35 (o + 56) 110 6 := by rw [em35]; exact aln_ar ar56m34 (o_lt hm34 (by decide))
  have ar77m35 : AR m35 (o + 77) 113 7 := by rw [em35]; exact aln_ar ar77m34 (o_lt hm34 (by decide))
  refine cpA F fz_X0_140 (fun _ => hnm) dX0_init_273 obm35 rfl rfl ?_
  obtain ⟨d37, ed37⟩ : ∃ z, z = st d36 o 40 (o + 564) := ⟨_, rfl⟩
  refine v_nD ed37 ?_
  have f0d37 : d37 o 0 = (o + 1) := by rw [ed37, st_nk (by decide)]; exact f0d36
  have f3d37 : d37 o 3 = (o + 2) := by rw [ed37, st_nk (by decide)]; exact f3d36
  have f13d37 : d37 o 13 = (o + 56) := by rw [ed37, st_nk (by decide)]; exact f13d36
  have f34d37 : d37 o 34 = (o + 77) := by rw [ed37, st_nk (by decide)]; exact f34d36
  refine v_aload_n F dX0_init_276 rfl rfl ?_
  refine v_bipush F dX0_init_277 rfl ⟨by decide, by decide⟩ ?_
  refine v_newa (t := 103) (ty := .boolean) F dX0_init_279 rfl rfl ⟨by decide, by decide⟩ rfl (fun _ _ => rfl) rfl q533 ⟨by decide, by decide⟩ (by decide) (fun _ _ => trivial) (Nat.le_of_ble_eq_true rfl) (ks' := 34203) rfl (Nat.le_of_ble_eq_true rfl) hm35 ?_
  obtain ⟨m36, em36⟩ : ∃ z, z = aln m35 ((103 : Nat) : Int) 60 := ⟨_, rfl⟩
  refine v_nM em36 ?_
  have hm36 : m36 0 0 = (o + 566) := by rw [em36]; exact aln_nxo hm35 ho (by decide) rfl
  have obm36 : OB m36 o 0 := by rw [em36]; exact aln_ob obm35 (o_lt0 hm35 (by decide))
  have ar56m36 : AR m36 (o + 56) 110 6 := by rw [em36]; exact aln_ar ar56m35 (o_lt hm35 (by decide))
  have ar77m36 : AR m36 (o + 77) 113 7 := by rw [em36]; exact aln_ar ar77m35 (o_lt hm35 (by decide))
  refine cpA F fz_X0_143 (fun _ => hnm) dX0_init_281 obm36 rfl rfl ?_
  obtain ⟨d38, ed38⟩ : ∃ z, z = st d37 o 41 (o + 565) := ⟨_, rfl⟩
  refine v_nD ed38 ?_
  have f0d38 : d38 o 0 = (o + 1) := by rw [ed38, st_nk (by decide)]; exact f0d37
  have f3d38 : d38 o 3 = (o + 2) := by rw [ed38, st_nk (by decide)]; exact f3d37
  have f13d38 : d38 o 13 = (o + 56) := by rw [ed38, st_nk (by decide)]; exact f13d37
  have f34d38 : d38 o 34 = (o + 77) := by rw [ed38, st_nk (by decide)]; exact f34d37
  refine v_aload_n F dX0_init_284 rfl rfl ?_
  refine v_bipush F dX0_init_285 rfl ⟨by decide, by decide⟩ ?_
  refine v_bipush F dX0_init_287 rfl ⟨by decide, by decide⟩ ?_
  refine v_multi (t := 108) (t2 := 104) (ty := .long) F dX0_init_289 rfl rfl ⟨by decide, by decide⟩ ⟨by decide, by decide⟩ rfl rfl (fun _ _ => rfl) rfl (by decide) (by decide) (by decide) q899 q718 q898 (by decide) ⟨by decide, by decide⟩ ⟨by decide, by decide⟩ (fun _ _ => trivial) (kc' := 627) rfl (Nat.le_of_ble_eq_true rfl) (ks' := 37985) rfl (Nat.le_of_ble_eq_true rfl) hm36 ?_
  rw [hm36]
  obtain ⟨m37, em37⟩ : ∃ z, z = mlt m36 ((108 : Nat) : Int) 61 ((104 : Nat) : Int) 61 := ⟨_, rfl⟩
  refine v_nM em37 ?_
  have hm37 : m37 0 0 = (o + 628) := by rw [em37]; exact mlt_nxo hm36 ho (by decide) rfl
  have obm37 : OB m37 o 0 := by rw [em37]; exact mlt_ob obm36 (o_lt0 hm36 (by decide)) (by decide)
  have ar56m37 : AR m37 (o + 56) 110 6 := by rw [em37]; exact mlt_ar ar56m36 (o_lt hm36 (by decide)) (by decide)
  have ar77m37 : AR m37 (o + 77) 113 7 := by rw [em37]; exact mlt_ar ar77m36 (o_lt hm36 (by decide)) (by decide)
  obtain ⟨d39, ed39⟩ : ∃ z, z = mlD d38 (o + 566) 61 := ⟨_, rfl⟩
  refine v_nD ed39 ?_
  have f0d39 : d39 o 0 = (o + 1) := by rw [ed39, mlD_ne (o_ne (by decide))]; exact f0d38
  have f3d39 : d39 o 3 = (o + 2) := by rw [ed39, mlD_ne (o_ne (by decide))]; exact f3d38
  have f13d39 : d39 o 13 = (o + 56) := by rw [ed39, mlD_ne (o_ne (by decide))]; exact f13d38
  have f34d39 : d39 o 34 = (o + 77) := by rw [ed39, mlD_ne (o_ne (by decide))]; exact f34d38
  refine cpA F fz_X0_148 (fun _ => hnm) dX0_init_293 obm37 rfl rfl ?_
  obtain ⟨d40, ed40⟩ : ∃ z, z = st d39 o 48 (o + 566) := ⟨_, rfl⟩
  refine v_nD ed40 ?_
  have f0d40 : d40 o 0 = (o + 1) := by rw [ed40, st_nk (by decide)]; exact f0d39
  have f3d40 : d40 o 3 = (o + 2) := by rw [ed40, st_nk (by decide)]; exact f3d39
  have f13d40 : d40 o 13 = (o + 56) := by rw [ed40, st_nk (by decide)]; exact f13d39
  have f34d40 : d40 o 34 = (o + 77) := by rw [ed40, st_nk (by decide)]; exact f34d39
  refine v_iconst F dX0_init_296 ⟨by decide, by decide⟩ ?_
  refine v_istore_n F dX0_init_297 rfl (Nat.le_of_ble_eq_true rfl) (L' := [mA o, mI 0, mU]) rfl ?_
  refine v_iload_n F dX0_init_298 rfl rfl ?_
  refine v_bipush F dX0_init_299 rfl ⟨by decide, by decide⟩ ?_
  refine v_icmp_ge F dX0_init_301 rfl (fun h => absurd h (show ¬ (6 : Int) ≤ 0 from by decide)) (fun _ => ?_)
  refine v_aload_n F dX0_init_304 rfl rfl ?_
  refine v_getA F fg_X0_62 dX0_init_305 obm37 rfl f13d40 ?_
  refine v_iload_n F dX0_init_308 rfl rfl ?_
  refine v_new (c := 9) (n := 10) F dX0_init_309 rfl (Nat.le_of_ble_eq_true rfl) rfl ok_X9 q698 q900 q294 in_X9 tyX9_ok (fun _ _ => trivial) (Nat.le_of_ble_eq_true rfl) (Nat.le_of_ble_eq_true rfl) hm37 ?_
  have hn628 : m37 0 0 = (o + 628) := hm37
  obtain ⟨m38, em38⟩ : ∃ z, z = aln m37 ((9 : Nat) + 1 : Int) 0 := ⟨_, rfl⟩
  refine v_nM em38 ?_
  have hm38 : m38 0 0 = (o + 629) := by rw [em38]; exact aln_nxo hm37 ho (by decide) rfl
  have obm38 : OB m38 o 0 := by rw [em38]; exact aln_ob obm37 (o_lt0 hm37 (by decide))
  have ar56m38 : AR m38 (o + 56) 110 6 := by rw [em38]; exact aln_ar ar56m37 (o_lt hm37 (by decide))
  have ar77m38 : AR m38 (o + 77) 113 7 := by rw [em38]; exact aln_ar ar77m37 (o_lt hm37 (by decide))
  have ob628m38 : OB m38 (o + 628) 9 := ⟨o_pos ho (by decide), by rw [em38, ← hn628]; exact aln_1⟩
  refine v_dup_A F dX0_init_312 ?_
  refine v_callI F dX0_init_313 cn_X0_151 rfl ob628m38.1 (vm_X9_init (o := (o + 628)) (hm38.trans (o_da rfl)) ob628m38) rfl (rOk.of rfl) ?_
  obtain ⟨m39, em39⟩ : ∃ z, z = al TSX9_init m38 := ⟨_, rfl⟩
  refine v_nM em39 ?_
  have hm39 : m39 0 0 = (o + 636) := by rw [em39]; exact al_nxo rfl hm38 ho (by decide) alX9_init rfl
  have obm39 : OB m39 o 0 := by rw [em39]; exact al_ob rfl obm38 (o_lt0 hm38 (by decide))
  have ar56m39 : AR m39 (o + 56) 110 6 := by rw [em39]; exact al_ar rfl ar56m38 (o_lt hm38 (by decide))
  have ar77m39 : AR m39 (o + 77) 113 7 := by rw [em39]; exact al_ar rfl ar77m38 (o_lt hm38 (by decide))
  have ob628m39 : OB m39 (o + 628) 9 := by rw [em39]; exact al_ob rfl ob628m38 (o_lt hm38 (by decide))
  obtain ⟨d41, ed41⟩ : ∃ z, z = wr (o + 628) WSX9_init d40 := ⟨_, rfl⟩
  refine v_nD ed41 ?_
  have f0d41 : d41 o 0 = (o + 1) := by rw [ed41, wr_lt rfl (o_l1 (by decide))]; exact f0d40
  have f3d41 : d41 o 3 = (o + 2) := by rw [ed41, wr_lt rfl (o_l1 (by decide))]; exact f3d40
  have f13d41 : d41 o 13 = (o + 56) := by rw [ed41, wr_lt rfl (o_l1 (by decide))]; exact f13d40
  have f34d41 : d41 o 34 = (o + 77) := by rw [ed41, wr_lt rfl (o_l1 (by decide))]; exact f34d40
  refine v_aastO (t := 110) (c := 9) F dX0_init_316 ar56m39 (Nat.le_of_ble_eq_true rfl) rfl rfl rfl ob628m39 (Nat.le_of_ble_eq_true rfl) ⟨by decide, by decide⟩ (fun _ _ => trivial) ?_
  obtain ⟨d42, ed42⟩ : ∃ z, z = st d41 (o + 56) 0 (o + 628) := ⟨_, rfl⟩
  refine v_nD ed42 ?_
  have f0d42 : d42 o 0 = (o + 1) := by rw [ed42, st_na (o_ne (by decide))]; exact f0d41
  have f3d42 : d42 o 3 = (o + 2) := by rw [ed42, st_na (o_ne (by decide))]; exact f3d41
  have f13d42 : d42 o 13 = (o + 56) := by rw [ed42, st_na (o_ne (by decide))]; exact f13d41
  have f34d42 : d42 o 34 = (o + 77) := by rw [ed42, st_na (o_ne (by decide))]; exact f34d41
  refine v_iincN F dX0_init_317 (Nat.le_of_ble_eq_true rfl) rfl (y := 1) (by decide) (L' := [mA o, mI 1, mU]) rfl ?_
  refine v_goto F dX0_init_320 rfl ?_
  refine v_iload_n F dX0_init_298 rfl rfl ?_
  refine v_bipush F dX0_init_299 rfl ⟨by decide, by decide⟩ ?_
  refine v_icmp_ge F dX0_init_301 rfl (fun h => absurd h (show ¬ (6 : Int) ≤ 1 from by decide)) (fun _ => ?_)
  refine v_aload_n F dX0_init_304 rfl rfl ?_
  refine v_getA F fg_X0_62 dX0_init_305 obm39 rfl f13d42 ?_
  refine v_iload_n F dX0_init_308 rfl rfl ?_
  refine v_new (c := 9) (n := 10) F dX0_init_309 rfl (Nat.le_of_ble_eq_true rfl) rfl ok_X9 q698 q900 q294 in_X9 tyX9_ok (fun _ _ => trivial) (Nat.le_of_ble_eq_true rfl) (Nat.le_of_ble_eq_true rfl) hm39 ?_
  have hn636 : m39 0 0 = (o + 636) := hm39
  obtain ⟨m40, em40⟩ : ∃ z, z = aln m39 ((9 : Nat) + 1 : Int) 0 := ⟨_, rfl⟩
  refine v_nM em40 ?_
  have hm40 : m40 0 0 = (o + 637) := by rw [em40]; exact aln_nxo hm39 ho (by decide) rfl
  have obm40 : OB m40 o 0 := by rw [em40]; exact aln_ob obm39 (o_lt0 hm39 (by decide))
  have ar56m40 : AR m40 (o + 56) 110 6 := by rw [em40]; exact aln_ar ar56m39 (o_lt hm39 (by decide))
  have ar77m40 : AR m40 (o + 77) 113 7 := by rw [em40]; exact aln_ar ar77m39 (o_lt hm39 (by decide))
  have ob636m40 : OB m40 (o + 636) 9 := ⟨o_pos ho (by decide), by rw [em40, ← hn636]; exact aln_1⟩
  refine v_dup_A F dX0_init_312 ?_
  refine v_callI F dX0_init_313 cn_X0_151 rfl ob636m40.1 (vm_X9_init (o := (o + 636)) (hm40.trans (o_da rfl)) ob636m40) rfl (rOk.of rfl) ?_
  obtain ⟨m41, em41⟩ : ∃ z, z = al TSX9_init m40 := ⟨_, rfl⟩
  refine v_nM em41 ?_
  have hm41 : m41 0 0 = (o + 644) := by rw [em41]; exact al_nxo rfl hm40 ho (by decide) alX9_init rfl
  have obm41 : OB m41 o 0 := by rw [em41]; exact al_ob rfl obm40 (o_lt0 hm40 (by decide))
  have ar56m41 : AR m41 (o + 56) 110 6 := by rw [em41]; exact al_ar rfl ar56m40 (o_lt hm40 (by decide))
  have ar77m41 : AR m41 (o + 77) 113 7 := by rw [em41]; exact al_ar rfl ar77m40 (o_lt hm40 (by decide))
  have ob636m41 : OB m41 (o + 636) 9 := by rw [em41]; exact al_ob rfl ob636m40 (o_lt hm40 (by decide))
  obtain ⟨d43, ed43⟩ : ∃ z, z = wr (o + 636) WSX9_init d42 := ⟨_, rfl⟩
  refine v_nD ed43 ?_
  have f0d43 : d43 o 0 = (o + 1) := by rw [ed43, wr_lt rfl (o_l1 (by decide))]; exact f0d42
  have f3d43 : d43 o 3 = (o + 2) := by rw [ed43, wr_lt rfl (o_l1 (by decide))]; exact f3d42
  have f13d43 : d43 o 13 = (o + 56) := by rw [ed43, wr_lt rfl (o_l1 (by decide))]; exact f13d42
  have f34d43 : d43 o 34 = (o + 77) := by rw [ed43, wr_lt rfl (o_l1 (by decide))]; exact f34d42
  refine v_aastO (t := 110) (c := 9) F dX0_init_316 ar56m41 (Nat.le_of_ble_eq_true rfl) rfl rfl rfl ob636m41 (Nat.le_of_ble_eq_true rfl) ⟨by decide, by decide⟩ (fun _ _ => trivial) ?_
  obtain ⟨d44, ed44⟩ : ∃ z, z = st d43 (o + 56) 1 (o + 636) := ⟨_, rfl⟩
  refine v_nD ed44 ?_
  have f0d44 : d44 o 0 = (o + 1) := by rw [ed44, st_na (o_ne (by decide))]; exact f0d43
  have f3d44 : d44 o 3 = (o + 2) := by rw [ed44, st_na (o_ne (by decide))]; exact f3d43
  have f13d44 : d44 o 13 = (o + 56) := by rw [ed44, st_na (o_ne (by decide))]; exact f13d43
  have f34d44 : d44 o 34 = (o + 77) := by rw [ed44, st_na (o_ne (by decide))]; exact f34d43
  refine v_iincN F dX0_init_317 (Nat.le_of_ble_eq_true rfl) rfl (y := 2) (by decide) (L' := [mA o, mI 2, mU]) rfl ?_
  refine v_goto F dX0_init_320 rfl ?_
  refine v_iload_n F dX0_init_298 rfl rfl ?_
  refine v_bipush F dX0_init_299 rfl ⟨by decide, by decide⟩ ?_
  refine v_icmp_ge F dX0_init_301 rfl (fun h => absurd h (show ¬ (6 : Int) ≤ 2 from by decide)) (fun _ => ?_)
  refine v_aload_n F dX0_init_304 rfl rfl ?_
  refine v_getA F fg_X0_62 dX0_init_305 obm41 rfl f13d44 ?_
  refine v_iload_n F dX0_init_308 rfl rfl ?_
  refine v_new (c := 9) (n := 10) F dX0_init_309 rfl (Nat.le_of_ble_eq_true rfl) rfl ok_X9 q698 q900 q294 in_X9 tyX9_ok (fun _ _ => trivial) (Nat.le_of_ble_eq_true rfl) (Nat.le_of_ble_eq_true rfl) hm41 ?_
  have hn644 : m41 0 0 = (o + 644) := hm41
  obtain ⟨m42, em42⟩ : ∃ z, z = aln m41 ((9 : Nat) + 1 : Int) 0 := ⟨_, rfl⟩
  refine v_nM em42 ?_
  have hm42 : m42 0 0 = (o + 645) := by rw [em42]; exact aln_nxo hm41 ho (by decide) rfl
  have obm42 : OB m42 o 0 := by rw [em42]; exact aln_ob obm41 (o_lt0 hm41 (by decide))
  have ar56m42 : AR m42 (o + 56) 110 6 := by rw [em42]; exact aln_ar ar56m41 (o_lt hm41 (by decide))
  have ar77m42 : AR m42 (o + 77) 113 7 := by rw [em42]; exact aln_ar ar77m41 (o_lt hm41 (by decide))
  have ob644m42 : OB m42 (o + 644) 9 := ⟨o_pos ho (by decide), by rw [em42, ← hn644]; exact aln_1⟩
  refine v_dup_A F dX0_init_312 ?_
  refine v_callI F dX0_init_313 cn_X0_151 rfl ob644m42.1 (vm_X9_init (o := (o + 644)) (hm42.trans (o_da rfl)) ob644m42) rfl (rOk.of rfl) ?_
  obtain ⟨m43, em43⟩ : ∃ z, z = al TSX9_init m42 := ⟨_, rfl⟩
  refine v_nM em43 ?_
  have hm43 : m43 0 0 = (o + 652) := by rw [em43]; exact al_nxo rfl hm42 ho (by decide) alX9_init rfl
  have obm43 : OB m43 o 0 := by rw [em43]; exact al_ob rfl obm42 (o_lt0 hm42 (by decide))
  have ar56m43 : AR m43 (o + 56) 110 6 := by rw [em43]; exact al_ar rfl ar56m42 (o_lt hm42 (by decide))
  have ar77m43 : AR m43 (o + 77) 113 7 := by rw [em43]; exact al_ar rfl ar77m42 (o_lt hm42 (by decide))
  have ob644m43 : OB m43 (o + 644) 9 := by rw [em43]; exact al_ob rfl ob644m42 (o_lt hm42 (by decide))
  obtain ⟨d45, ed45⟩ : ∃ z, z = wr (o + 644) WSX9_init d44 := ⟨_, rfl⟩
  refine v_nD ed45 ?_
  have f0d45 : d45 o 0 = (o + 1) := by rw [ed45, wr_lt rfl (o_l1 (by decide))]; exact f0d44
  have f3d45 : d45 o 3 = (o + 2) := by rw [ed45, wr_lt rfl (o_l1 (by decide))]; exact f3d44
  have f13d45 : d45 o 13 = (o + 56) := by rw [ed45, wr_lt rfl (o_l1 (by decide))]; exact f13d44
  have f34d45 : d45 o 34 = (o + 77) := by rw [ed45, wr_lt rfl (o_l1 (by decide))]; exact f34d44
  refine v_aastO (t := 110) (c := 9) F dX0_init_316 ar56m43 (Nat.le_of_ble_eq_true rfl) rfl rfl rfl ob644m43 (Nat.le_of_ble_eq_true rfl) ⟨by decide, by decide⟩ (fun _ _ => trivial) ?_
  obtain ⟨d46, ed46⟩ : ∃ z, z = st d45 (o + 56) 2 (o + 644) := ⟨_, rfl⟩
  refine v_nD ed46 ?_
  have f0d46 : d46 o 0 = (o + 1) := by rw [ed46, st_na (o_ne (by decide))]; exact f0d45
  have f3d46 : d46 o 3 = (o + 2) := by rw [ed46, st_na (o_ne (by decide))]; exact f3d45
  have f13d46 : d46 o 13 = (o + 56) := by rw [ed46, st_na (o_ne (by decide))]; exact f13d45
  have f34d46 : d46 o 34 = (o + 77) := by rw [ed46, st_na (o_ne (by decide))]; exact f34d45
  refine v_iincN F dX0_init_317 (Nat.le_of_ble_eq_true rfl) rfl (y := 3) (by decide) (L' := [mA o, mI 3, mU]) rfl ?_
  refine v_goto F dX0_init_320 rfl ?_
  refine v_iload_n F dX0_init_298 rfl rfl ?_
  refine v_bipush F dX0_init_299 rfl ⟨by decide, by decide⟩ ?_
  refine v_icmp_ge F dX0_init_301 rfl (fun h => absurd h (show ¬ (6 : Int) ≤ 3 from by decide)) (fun _ => ?_)
  refine v_aload_n F dX0_init_304 rfl rfl ?_
  refine v_getA F fg_X0_62 dX0_init_305 obm43 rfl f13d46 ?_
  refine v_iload_n F dX0_init_308 rfl rfl ?_
  refine v_new (c := 9) (n := 10) F dX0_init_309 rfl (Nat.le_of_ble_eq_true rfl) rfl ok_X9 q698 q900 q294 in_X9 tyX9_ok (fun _ _ => trivial) (Nat.le_of_ble_eq_true rfl) (Nat.le_of_ble_eq_true rfl) hm43 ?_
  have hn652 : m43 0 0 = (o + 652) := hm43
  obtain ⟨m44, em44⟩ : ∃ z, z = aln m43 ((9 : Nat) + 1 : Int) 0 := ⟨_, rfl⟩
  refine v_nM em44 ?_
  have hm44 : m44 0 0 = (o + 653) := by rw [em44]; exact aln_nxo hm43 ho (by decide) rfl
  have obm44 : OB m44 o 0 := by rw [em44]; exact aln_ob obm43 (o_lt0 hm43 (by decide))
  have ar56m44 : AR m44 (o + 56) 110 6 := by rw [em44]; exact aln_ar ar56m43 (o_lt hm43 (by decide))
  have ar77m44 : AR m44 (o + 77) 113 7 := by rw [em44]; exact aln_ar ar77m43 (o_lt hm43 (by decide))
  have ob652m44 : OB m44 (o + 652) 9 := ⟨o_pos ho (by decide), by rw [em44, ← hn652]; exact aln_1⟩
  refine v_dup_A F dX0_init_312 ?_
  refine v_callI F dX0_init_313 cn_X0_151 rfl ob652m44.1 (vm_X9_init (o := (o + 652)) (hm44.trans (o_da rfl)) ob652m44) rfl (rOk.of rfl) ?_
  obtain ⟨m45, em45⟩ : ∃ z, z = al TSX9_init m44 := ⟨_, rfl⟩
  refine v_nM em45 ?_
  have hm45 : m45 0 0 = (o + 660) := by rw [em45]; exact al_nxo rfl hm44 ho (by decide) alX9_init rfl
  have obm45 : OB m45 o 0 := by rw [em45]; exact al_ob rfl obm44 (o_lt0 hm44 (by decide))
  have ar56m45 : AR m45 (o + 56) 110 6 := by rw [em45]; exact al_ar rfl ar56m44 (o_lt hm44 (by decide))
  have ar77m45 : AR m45 (o + 77) 113 7 := by rw [em45]; exact al_ar rfl ar77m44 (o_lt hm44 (by decide))
  have ob652m45 : OB m45 (o + 652) 9 := by rw [em45]; exact al_ob rfl ob652m44 (o_lt hm44 (by decide))
  obtain ⟨d47, ed47⟩ : ∃ z, z = wr (o + 652) WSX9_init d46 := ⟨_, rfl⟩
  refine v_nD ed47 ?_
  have f0d47 : d47 o 0 = (o + 1) := by rw [ed47, wr_lt rfl (o_l1 (by decide))]; exact f0d46
  have f3d47 : d47 o 3 = (o + 2) := by rw [ed47, wr_lt rfl (o_l1 (by decide))]; exact f3d46
  have f13d47 : d47 o 13 = (o + 56) := by rw [ed47, wr_lt rfl (o_l1 (by decide))]; exact f13d46
  have f34d47 : d47 o 34 = (o + 77) := by rw [ed47, wr_lt rfl (o_l1 (by decide))]; exact f34d46
  refine v_aastO (t := 110) (c := 9) F dX0_init_316 ar56m45 (Nat.le_of_ble_eq_true rfl) rfl rfl rfl ob652m45 (Nat.le_of_ble_eq_true rfl) ⟨by decide, by decide⟩ (fun _ _ => trivial) ?_
  obtain ⟨d48, ed48⟩ : ∃ z, z = st d47 (o + 56) 3 (o + 652) := ⟨_, rfl⟩
  refine v_nD ed48 ?_
  have f0d48 : d48 o 0 = (o + 1) := by rw [ed48, st_na (o_ne (by decide))]; exact f0d47
  have f3d48 : d48 o 3 = (o + 2) := by rw [ed48, st_na (o_ne (by decide))]; exact f3d47
  have f13d48 : d48 o 13 = (o + 56) := by rw [ed48, st_na (o_ne (by decide))]; exact f13d47
  have f34d48 : d48 o 34 = (o + 77) := by rw [ed48, st_na (o_ne (by decide))]; exact f34d47
  refine v_iincN F dX0_init_317 (Nat.le_of_ble_eq_true rfl) rfl (y := 4) (by decide) (L' := [mA o, mI 4, mU]) rfl ?_
  refine v_goto F dX0_init_320 rfl ?_
  refine v_iload_n F dX0_init_298 rfl rfl ?_
  refine v_bipush F dX0_init_299 rfl ⟨by decide, by decide⟩ ?_
  refine v_icmp_ge F dX0_init_301 rfl (fun h => absurd h (show ¬ (6 : Int) ≤ 4 from by decide)) (fun _ => ?_)
  refine v_aload_n F dX0_init_304 rfl rfl ?_
  refine v_getA F fg_X0_62 dX0_init_305 obm45 rfl f13d48 ?_
  refine v_iload_n F dX0_init_308 rfl rfl ?_
  refine v_new (c := 9) (n := 10) F dX0_init_309 rfl (Nat.le_of_ble_eq_true rfl) rfl ok_X9 q698 q900 q294 in_X9 tyX9_ok (fun _ _ => trivial) (Nat.le_of_ble_eq_true rfl) (Nat.le_of_ble_eq_true rfl) hm45 ?_
  have hn660 : m45 0 0 = (o + 660) := hm45
  obtain ⟨m46, em46⟩ : ∃ z, z = aln m45 ((9 : Nat) + 1 : Int) 0 := ⟨_, rfl⟩
  refine v_nM em46 ?_
  have hm46 : m46 0 0 = (o + 661) := by rw [em46]; exact aln_nxo hm45 ho (by decide) rfl
  have obm46 : OB m46 o 0 := by rw [em46]; exact aln_ob obm45 (o_lt0 hm45 (by decide))
  have ar56m46 : AR m46 (o + 56) 110 6 := by rw [em46]; exact aln_ar ar56m45 (o_lt hm45 (by decide))
  have ar77m46 : AR m46 (o + 77) 113 7 := by rw [em46]; exact aln_ar ar77m45 (o_lt hm45 (by decide))
  have ob660m46 : OB m46 (o + 660) 9 := ⟨o_pos ho (by decide), by rw [em46, ← hn660]; exact aln_1⟩
  refine v_dup_A F dX0_init_312 ?_
  refine v_callI F dX0_init_313 cn_X0_151 rfl ob660m46.1 (vm_X9_init (o := (o + 660)) (hm46.trans (o_da rfl)) ob660m46) rfl (rOk.of rfl) ?_
  obtain ⟨m47, em47⟩ : ∃ z, z = al TSX9_init m46 := ⟨_, rfl⟩
  refine v_nM em47 ?_
  have hm47 : m47 0 0 = (o + 668) := by rw [em47]; exact al_nxo rfl hm46 ho (by decide) alX9_init rfl
  have obm47 : OB m47 o 0 := by rw [em47]; exact al_ob rfl obm46 (o_lt0 hm46 (by decide))
  have ar56m47 : AR m47 (o + 56) 110 6 := by rw [em47]; exact al_ar rfl ar56m46 (o_lt hm46 (by decide))
  have ar77m47 : AR m47 (o + 77) 113 7 := by rw [em47]; exact al_ar rfl ar77m46 (o_lt hm46 (by decide))
  have ob660m47 : OB m47 (o + 660) 9 := by rw [em47]; exact al_ob rfl ob660m46 (o_lt hm46 (by decide))
  obtain ⟨d49, ed49⟩ : ∃ z, z = wr (o + 660) WSX9_init d48 := ⟨_, rfl⟩
  refine v_nD ed49 ?_
  have f0d49 : d49 o 0 = (o + 1) := by rw [ed49, wr_lt rfl (o_l1 (by decide))]; exact f0d48
  have f3d49 : d49 o 3 = (o + 2) := by rw [ed49, wr_lt rfl (o_l1 (by decide))]; exact f3d48
  have f13d49 : d49 o 13 = (o + 56) := by rw [ed49, wr_lt rfl (o_l1 (by decide))]; exact f13d48
  have f34d49 : d49 o 34 = (o + 77) := by rw [ed49, wr_lt rfl (o_l1 (by decide))]; exact f34d48
  refine v_aastO (t := 110) (c := 9) F dX0_init_316 ar56m47 (Nat.le_of_ble_eq_true rfl) rfl rfl rfl ob660m47 (Nat.le_of_ble_eq_true rfl) ⟨by decide, by decide⟩ (fun _ _ => trivial) ?_
  obtain ⟨d50, ed50⟩ : ∃ z, z = st d49 (o + 56) 4 (o + 660) := ⟨_, rfl⟩
  refine v_nD ed50 ?_
  have f0d50 : d50 o 0 = (o + 1) := by rw [ed50, st_na (o_ne (by decide))]; exact f0d49
  have f3d50 : d50 o 3 = (o + 2) := by rw [ed50, st_na (o_ne (by decide))]; exact f3d49
  have f13d50 : d50 o 13 = (o + 56) := by rw [ed50, st_na (o_ne (by decide))]; exact f13d49
  have f34d50 : d50 o 34 = (o + 77) := by rw [ed50, st_na (o_ne (by decide))]; exact f34d49
  refine v_iincN F dX0_init_317 (Nat.le_of_ble_eq_true rfl) rfl (y := 5) (by decide) (L' := [mA o, mI 5, mU]) rfl ?_
  refine v_goto F dX0_init_320 rfl ?_
  refine v_iload_n F dX0_init_298 rfl rfl ?_
  refine v_bipush F dX0_init_299 rfl ⟨by decide, by decide⟩ ?_
  refine v_icmp_ge F dX0_init_301 rfl (fun h => absurd h (show ¬ (6 : Int) ≤ 5 from by decide)) (fun _ => ?_)
  refine v_aload_n F dX0_init_304 rfl rfl ?_
  refine v_getA F fg_X0_62 dX0_init_305 obm47 rfl f13d50 ?_
  refine v_iload_n F dX0_init_308 rfl rfl ?_
  refine v_new (c := 9) (n := 10) F dX0_init_309 rfl (Nat.le_of_ble_eq_true rfl) rfl ok_X9 q698 q900 q294 in_X9 tyX9_ok (fun _ _ => trivial) (Nat.le_of_ble_eq_true rfl) (Nat.le_of_ble_eq_true rfl) hm47 ?_
  have hn668 : m47 0 0 = (o + 668) := hm47
  obtain ⟨m48, em48⟩ : ∃ z, z = aln m47 ((9 : Nat) + 1 : Int) 0 := ⟨_, rfl⟩
  refine v_nM em48 ?_
  have hm48 : m48 0 0 = (o + 669) := by rw [em48]; exact aln_nxo hm47 ho (by decide) rfl
  have obm48 : OB m48 o 0 := by rw [em48]; exact aln_ob obm47 (o_lt0 hm47 (by decide))
  have ar56m48 : AR m48 (o + 56) 110 6 := by rw [em48]; exact aln_ar ar56m47 (o_lt hm47 (by decide))
  have ar77m48 : AR m48 (o + 77) 113 7 := by rw [em48]; exact aln_ar ar77m47 (o_lt hm47 (by decide))
  have ob668m48 : OB m48 (o + 668) 9 := ⟨o_pos ho (by decide), by rw [em48, ← hn668]; exact aln_1⟩
  refine v_dup_A F dX0_init_312 ?_
  refine v_callI F dX0_init_313 cn_X0_151 rfl ob668m48.1 (vm_X9_init (o := (o + 668)) (hm48.trans (o_da rfl)) ob668m48) rfl (rOk.of rfl) ?_
  obtain ⟨m49, em49⟩ : ∃ z, z = al TSX9_init m48 := ⟨_, rfl⟩
  refine v_nM em49 ?_
  have hm49 : m49 0 0 = (o + 676) := by rw [em49]; exact al_nxo rfl hm48 ho (by decide) alX9_init rfl
  have obm49 : OB m49 o 0 := by rw [em49]; exact al_ob rfl obm48 (o_lt0 hm48 (by decide))
  have ar56m49 : AR m49 (o + 56) 110 6 := by rw [em49]; exact al_ar rfl ar56m48 (o_lt hm48 (by decide))
  have ar77m49 : AR m49 (o + 77) 113 7 := by rw [em49]; exact al_ar rfl ar77m48 (o_lt hm48 (by decide))
  have ob668m49 : OB m49 (o + 668) 9 := by rw [em49]; exact al_ob rfl ob668m48 (o_lt hm48 (by decide))
  obtain ⟨d51, ed51⟩ : ∃ z, z = wr (o + 668) WSX9_init d50 := ⟨_, rfl⟩
  refine v_nD ed51 ?_
  have f0d51 : d51 o 0 = (o + 1) := by rw [ed51, wr_lt rfl (o_l1 (by decide))]; exact f0d50
  have f3d51 : d51 o 3 = (o + 2) := by rw [ed51, wr_lt rfl (o_l1 (by decide))]; exact f3d50
  have f13d51 : d51 o 13 = (o + 56) := by rw [ed51, wr_lt rfl (o_l1 (by decide))]; exact f13d50
  have f34d51 : d51 o 34 = (o + 77) := by rw [ed51, wr_lt rfl (o_l1 (by decide))]; exact f34d50
  refine v_aastO (t := 110) (c := 9) F dX0_init_316 ar56m49 (Nat.le_of_ble_eq_true rfl) rfl rfl rfl ob668m49 (Nat.le_of_ble_eq_true rfl) ⟨by decide, by decide⟩ (fun _ _ => trivial) ?_
  obtain ⟨d52, ed52⟩ : ∃ z, z = st d51 (o + 56) 5 (o + 668) := ⟨_, rfl⟩
  refine v_nD ed52 ?_
  have f0d52 : d52 o 0 = (o + 1) := by rw [ed52, st_na (o_ne (by decide))]; exact f0d51
  have f3d52 : d52 o 3 = (o + 2) := by rw [ed52, st_na (o_ne (by decide))]; exact f3d51
  have f13d52 : d52 o 13 = (o + 56) := by rw [ed52, st_na (o_ne (by decide))]; exact f13d51
  have f34d52 : d52 o 34 = (o + 77) := by rw [ed52, st_na (o_ne (by decide))]; exact f34d51
  refine v_iincN F dX0_init_317 (Nat.le_of_ble_eq_true rfl) rfl (y := 6) (by decide) (L' := [mA o, mI 6, mU]) rfl ?_
  refine v_goto F dX0_init_320 rfl ?_
  refine v_iload_n F dX0_init_298 rfl rfl ?_
  refine v_bipush F dX0_init_299 rfl ⟨by decide, by decide⟩ ?_
  refine v_icmp_ge F dX0_init_301 rfl (fun _ => ?_) (fun h => absurd (show (6 : Int) ≤ 6 from by decide) h)
  refine v_iconst F dX0_init_323 ⟨by decide, by decide⟩ ?_
  refine v_istore_n F dX0_init_324 rfl (Nat.le_of_ble_eq_true rfl) (L' := [mA o, mI 0, mU]) rfl ?_
  refine v_iload_n F dX0_init_325 rfl rfl ?_
  refine v_bipush F dX0_init_326 rfl ⟨by decide, by decide⟩ ?_
  refine v_icmp_gt F dX0_init_328 rfl (fun h => absurd h (show ¬ (6 : Int) < 0 from by decide)) (fun _ => ?_)
  refine v_aload_n F dX0_init_331 rfl rfl ?_
  refine v_getA F fg_X0_120 dX0_init_332 obm49 rfl f34d52 ?_
  refine v_iload_n F dX0_init_335 rfl rfl ?_
  refine v_new (c := 10) (n := 6) F dX0_init_336 rfl (Nat.le_of_ble_eq_true rfl) rfl ok_X10 q706 q951 q295 in_X10 tyX10_ok (fun _ _ => trivial) (Nat.le_of_ble_eq_true rfl) (Nat.le_of_ble_eq_true rfl) hm49 ?_
  have hn676 : m49 0 0 = (o + 676) := hm49
  obtain ⟨m50, em50⟩ : ∃ z, z = aln m49 ((10 : Nat) + 1 : Int) 0 := ⟨_, rfl⟩
  refine v_nM em50 ?_
  have hm50 : m50 0 0 = (o + 677) := by rw [em50]; exact aln_nxo hm49 ho (by decide) rfl
  have obm50 : OB m50 o 0 := by rw [em50]; exact aln_ob obm49 (o_lt0 hm49 (by decide))
  have ar56m50 : AR m50 (o + 56) 110 6 := by rw [em50]; exact aln_ar ar56m49 (o_lt hm49 (by decide))
  have ar77m50 : AR m50 (o + 77) 113 7 := by rw [em50]; exact aln_ar ar77m49 (o_lt hm49 (by decide))
  have ob676m50 : OB m50 (o + 676) 10 := ⟨o_pos ho (by decide), by rw [em50, ← hn676]; exact aln_1⟩
  refine v_dup_A F dX0_init_339 ?_
  refine v_callI F dX0_init_340 cn_X0_152 rfl ob676m50.1 (vm_X10_init (o := (o + 676)) (hm50.trans (o_da rfl)) ob676m50) rfl (rOk.of rfl) ?_
  obtain ⟨m51, em51⟩ : ∃ z, z = al TSX10_init m50 := ⟨_, rfl⟩
  refine v_nM em51 ?_
  have hm51 : m51 0 0 = (o + 800) := by rw [em51]; exact al_nxo rfl hm50 ho (by decide) alX10_init rfl
  have obm51 : OB m51 o 0 := by rw [em51]; exact al_ob rfl obm50 (o_lt0 hm50 (by decide))
  have ar56m51 : AR m51 (o + 56) 110 6 := by rw [em51]; exact al_ar rfl ar56m50 (o_lt hm50 (by decide))
  have ar77m51 : AR m51 (o + 77) 113 7 := by rw [em51]; exact al_ar rfl ar77m50 (o_lt hm50 (by decide))
  have ob676m51 : OB m51 (o + 676) 10 := by rw [em51]; exact al_ob rfl ob676m50 (o_lt hm50 (by decide))
  obtain ⟨d53, ed53⟩ : ∃ z, z = wr (o + 676) WSX10_init d52 := ⟨_, rfl⟩
  refine v_nD ed53 ?_
  have f0d53 : d53 o 0 = (o + 1) := by rw [ed53, wr_lt rfl (o_l1 (by decide))]; exact f0d52
  have f3d53 : d53 o 3 = (o + 2) := by rw [ed53, wr_lt rfl (o_l1 (by decide))]; exact f3d52
  have f13d53 : d53 o 13 = (o + 56) := by rw [ed53, wr_lt rfl (o_l1 (by decide))]; exact f13d52
  have f34d53 : d53 o 34 = (o + 77) := by rw [ed53, wr_lt rfl (o_l1 (by decide))]; exact f34d52
  refine v_aastO (t := 113) (c := 10) F dX0_init_343 ar77m51 (Nat.le_of_ble_eq_true rfl) rfl rfl rfl ob676m51 (Nat.le_of_ble_eq_true rfl) ⟨by decide, by decide⟩ (fun _ _ => trivial) ?_
  obtain ⟨d54, ed54⟩ : ∃ z, z = st d53 (o + 77) 0 (o + 676) := ⟨_, rfl⟩
  refine v_nD ed54 ?_
  have f0d54 : d54 o 0 = (o + 1) := by rw [ed54, st_na (o_ne (by decide))]; exact f0d53
  have f3d54 : d54 o 3 = (o + 2) := by rw [ed54, st_na (o_ne (by decide))]; exact f3d53
  have f13d54 : d54 o 13 = (o + 56) := by rw [ed54, st_na (o_ne (by decide))]; exact f13d53
  have f34d54 : d54 o 34 = (o + 77) := by rw [ed54, st_na (o_ne (by decide))]; exact f34d53
  refine v_iincN F dX0_init_344 (Nat.le_of_ble_eq_true rfl) rfl (y := 1) (by decide) (L' := [mA o, mI 1, mU]) rfl ?_
  refine v_goto F dX0_init_347 rfl ?_
  refine v_iload_n F dX0_init_325 rfl rfl ?_
  refine v_bipush F dX0_init_326 rfl ⟨by decide, by decide⟩ ?_
  refine v_icmp_gt F dX0_init_328 rfl (fun h => absurd h (show ¬ (6 : Int) < 1 from by decide)) (fun _ => ?_)
  refine v_aload_n F dX0_init_331 rfl rfl ?_
  refine v_getA F fg_X0_120 dX0_init_332 obm51 rfl f34d54 ?_
  refine v_iload_n F dX0_init_335 rfl rfl ?_
  refine v_new (c := 10) (n := 6) F dX0_init_336 rfl (Nat.le_of_ble_eq_true rfl) rfl ok_X10 q706 q951 q295 in_X10 tyX10_ok (fun _ _ => trivial) (Nat.le_of_ble_eq_true rfl) (Nat.le_of_ble_eq_true rfl) hm51 ?_
  have hn800 : m51 0 0 = (o + 800) := hm51
  obtain ⟨m52, em52⟩ : ∃ z, z = aln m51 ((10 : Nat) + 1 : Int) 0 := ⟨_, rfl⟩
  refine v_nM em52 ?_
  have hm52 : m52 0 0 = (o + 801) := by rw [em52]; exact aln_nxo hm51 ho (by decide) rfl
  have obm52 : OB m52 o 0 := by rw [em52]; exact aln_ob obm51 (o_lt0 hm51 (by decide))
  have ar56m52 : AR m52 (o + 56) 110 6 := by rw [em52]; exact aln_ar ar56m51 (o_lt hm51 (by decide))
  have ar77m52 : AR m52 (o + 77) 113 7 := by rw [em52]; exact aln_ar ar77m51 (o_lt hm51 (by decide))
  have ob800m52 : OB m52 (o + 800) 10 := ⟨o_pos ho (by decide), by rw [em52, ← hn800]; exact aln_1⟩
  refine v_dup_A F dX0_init_339 ?_
  refine v_callI F dX0_init_340 cn_X0_152 rfl ob800m52.1 (vm_X10_init (o := (o + 800)) (hm52.trans (o_da rfl)) ob800m52) rfl (rOk.of rfl) ?_
  obtain ⟨m53, em53⟩ : ∃ z, z = al TSX10_init m52 := ⟨_, rfl⟩
  refine v_nM em53 ?_
  have hm53 : m53 0 0 = (o + 924) := by rw [em53]; exact al_nxo rfl hm52 ho (by decide) alX10_init rfl
  have obm53 : OB m53 o 0 := by rw [em53]; exact al_ob rfl obm52 (o_lt0 hm52 (by decide))
  have ar56m53 : AR m53 (o + 56) 110 6 := by rw [em53]; exact al_ar rfl ar56m52 (o_lt hm52 (by decide))
  have ar77m53 : AR m53 (o + 77) 113 7 := by rw [em53]; exact al_ar rfl ar77m52 (o_lt hm52 (by decide))
  have ob800m53 : OB m53 (o + 800) 10 := by rw [em53]; exact al_ob rfl ob800m52 (o_lt hm52 (by decide))
  obtain ⟨d55, ed55⟩ : ∃ z, z = wr (o + 800) WSX10_init d54 := ⟨_, rfl⟩
  refine v_nD ed55 ?_
  have f0d55 : d55 o 0 = (o + 1) := by rw [ed55, wr_lt rfl (o_l1 (by decide))]; exact f0d54
  have f3d55 : d55 o 3 = (o + 2) := by rw [ed55, wr_lt rfl (o_l1 (by decide))]; exact f3d54
  have f13d55 : d55 o 13 = (o + 56) := by rw [ed55, wr_lt rfl (o_l1 (by decide))]; exact f13d54
  have f34d55 : d55 o 34 = (o + 77) := by rw [ed55, wr_lt rfl (o_l1 (by decide))]; exact f34d54
  refine v_aastO (t := 113) (c := 10) F dX0_init_343 ar77m53 (Nat.le_of_ble_eq_true rfl) rfl rfl rfl ob800m53 (Nat.le_of_ble_eq_true rfl) ⟨by decide, by decide⟩ (fun _ _ => trivial) ?_
  obtain ⟨d56, ed56⟩ : ∃ z, z = st d55 (o + 77) 1 (o + 800) := ⟨_, rfl⟩
  refine v_nD ed56 ?_
  have f0d56 : d56 o 0 = (o + 1) := by rw [ed56, st_na (o_ne (by decide))]; exact f0d55
  have f3d56 : d56 o 3 = (o + 2) := by rw [ed56, st_na (o_ne (by decide))]; exact f3d55
  have f13d56 : d56 o 13 = (o + 56) := by rw [ed56, st_na (o_ne (by decide))]; exact f13d55
  have f34d56 : d56 o 34 = (o + 77) := by rw [ed56, st_na (o_ne (by decide))]; exact f34d55
  refine v_iincN F dX0_init_344 (Nat.le_of_ble_eq_true rfl) rfl (y := 2) (by decide) (L' := [mA o, mI 2, mU]) rfl ?_
  refine v_goto F dX0_init_347 rfl ?_
  refine v_iload_n F dX0_init_325 rfl rfl ?_
  refine v_bipush F dX0_init_326 rfl ⟨by decide, by decide⟩ ?_
  refine v_icmp_gt F dX0_init_328 rfl (fun h => absurd h (show ¬ (6 : Int) < 2 from by decide)) (fun _ => ?_)
  refine v_aload_n F dX0_init_331 rfl rfl ?_
  refine v_getA F fg_X0_120 dX0_init_332 obm53 rfl f34d56 ?_
  refine v_iload_n F dX0_init_335 rfl rfl ?_
  refine v_new (c := 10) (n := 6) F dX0_init_336 rfl (Nat.le_of_ble_eq_true rfl) rfl ok_X10 q706 q951 q295 in_X10 tyX10_ok (fun _ _ => trivial) (Nat.le_of_ble_eq_true rfl) (Nat.le_of_ble_eq_true rfl) hm53 ?_
  have hn924 : m53 0 0 = (o + 924) := hm53
  obtain ⟨m54, em54⟩ : ∃ z, z = aln m53 ((10 : Nat) + 1 : Int) 0 := ⟨_, rfl⟩
  refine v_nM em54 ?_
  have hm54 : m54 0 0 = (o + 925) := by rw [em54]; exact aln_nxo hm53 ho (by decide) rfl
  have obm54 : OB m54 o 0 := by rw [em54]; exact aln_ob obm53 (o_lt0 hm53 (by decide))
  have ar56m54 : AR m54 (o + 56) 110 6 := by rw [em54]; exact aln_ar ar56m53 (o_lt hm53 (by decide))
  have ar77m54 : AR m54 (o + 77) 113 7 := by rw [em54]; exact aln_ar ar77m53 (o_lt hm53 (by decide))
  have ob924m54 : OB m54 (o + 924) 10 := ⟨o_pos ho (by decide), by rw [em54, ← hn924]; exact aln_1⟩
  refine v_dup_A F dX0_init_339 ?_
  refine v_callI F dX0_init_340 cn_X0_152 rfl ob924m54.1 (vm_X10_init (o := (o + 924)) (hm54.trans (o_da rfl)) ob924m54) rfl (rOk.of rfl) ?_
  obtain ⟨m55, em55⟩ : ∃ z, z = al TSX10_init m54 := ⟨_, rfl⟩
  refine v_nM em55 ?_
  have hm55 : m55 0 0 = (o + 1048) := by rw [em55]; exact al_nxo rfl hm54 ho (by decide) alX10_init rfl
  have obm55 : OB m55 o 0 := by rw [em55]; exact al_ob rfl obm54 (o_lt0 hm54 (by decide))
  have ar56m55 : AR m55 (o + 56) 110 6 := by rw [em55]; exact al_ar rfl ar56m54 (o_lt hm54 (by decide))
  have ar77m55 : AR m55 (o + 77) 113 7 := by rw [em55]; exact al_ar rfl ar77m54 (o_lt hm54 (by decide))
  have ob924m55 : OB m55 (o + 924) 10 := by rw [em55]; exact al_ob rfl ob924m54 (o_lt hm54 (by decide))
  obtain ⟨d57, ed57⟩ : ∃ z, z = wr (o + 924) WSX10_init d56 := ⟨_, rfl⟩
  refine v_nD ed57 ?_
  have f0d57 : d57 o 0 = (o + 1) := by rw [ed57, wr_lt rfl (o_l1 (by decide))]; exact f0d56
  have f3d57 : d57 o 3 = (o + 2) := by rw [ed57, wr_lt rfl (o_l1 (by decide))]; exact f3d56
  have f13d57 : d57 o 13 = (o + 56) := by rw [ed57, wr_lt rfl (o_l1 (by decide))]; exact f13d56
  have f34d57 : d57 o 34 = (o + 77) := by rw [ed57, wr_lt rfl (o_l1 (by decide))]; exact f34d56
  refine v_aastO (t := 113) (c := 10) F dX0_init_343 ar77m55 (Nat.le_of_ble_eq_true rfl) rfl rfl rfl ob924m55 (Nat.le_of_ble_eq_true rfl) ⟨by decide, by decide⟩ (fun _ _ => trivial) ?_
  obtain ⟨d58, ed58⟩ : ∃ z, z = st d57 (o + 77) 2 (o + 924) := ⟨_, rfl⟩
  refine v_nD ed58 ?_
  have f0d58 : d58 o 0 = (o + 1) := by rw [ed58, st_na (o_ne (by decide))]; exact f0d57
  have f3d58 : d58 o 3 = (o + 2) := by rw [ed58, st_na (o_ne (by decide))]; exact f3d57
  have f13d58 : d58 o 13 = (o + 56) := by rw [ed58, st_na (o_ne (by decide))]; exact f13d57
  have f34d58 : d58 o 34 = (o + 77) := by rw [ed58, st_na (o_ne (by decide))]; exact f34d57
  refine v_iincN F dX0_init_344 (Nat.le_of_ble_eq_true rfl) rfl (y := 3) (by decide) (L' := [mA o, mI 3, mU]) rfl ?_
  refine v_goto F dX0_init_347 rfl ?_
  refine v_iload_n F dX0_init_325 rfl rfl ?_
  refine v_bipush F dX0_init_326 rfl ⟨by decide, by decide⟩ ?_
  refine v_icmp_gt F dX0_init_328 rfl (fun h => absurd h (show ¬ (6 : Int) < 3 from by decide)) (fun _ => ?_)
  refine v_aload_n F dX0_init_331 rfl rfl ?_
  refine v_getA F fg_X0_120 dX0_init_332 obm55 rfl f34d58 ?_
  refine v_iload_n F dX0_init_335 rfl rfl ?_
  refine v_new (c := 10) (n := 6) F dX0_init_336 rfl (Nat.le_of_ble_eq_true rfl) rfl ok_X10 q706 q951 q295 in_X10 tyX10_ok (fun _ _ => trivial) (Nat.le_of_ble_eq_true rfl) (Nat.le_of_ble_eq_true rfl) hm55 ?_
  have hn1048 : m55 0 0 = (o + 1048) := hm55
  obtain ⟨m56, em56⟩ : ∃ z, z = aln m55 ((10 : Nat) + 1 : Int) 0 := ⟨_, rfl⟩
  refine v_nM em56 ?_
  have hm56 : m56 0 0 = (o + 1049) := by rw [em56]; exact aln_nxo hm55 ho (by decide) rfl
  have obm56 : OB m56 o 0 := by rw [em56]; exact aln_ob obm55 (o_lt0 hm55 (by decide))
  have ar56m56 : AR m56 (o + 56) 110 6 := by rw [em56]; exact aln_ar ar56m55 (o_lt hm55 (by decide))
  have ar77m56 : AR m56 (o + 77) 113 7 := by rw [em56]; exact aln_ar ar77m55 (o_lt hm55 (by decide))
  have ob1048m56 : OB m56 (o + 1048) 10 := ⟨o_pos ho (by decide), by rw [em56, ← hn1048]; exact aln_1⟩
  refine v_dup_A F dX0_init_339 ?_
  refine v_callI F dX0_init_340 cn_X0_152 rfl ob1048m56.1 (vm_X10_init (o := (o + 1048)) (hm56.trans (o_da rfl)) ob1048m56) rfl (rOk.of rfl) ?_
  obtain ⟨m57, em57⟩ : ∃ z, z = al TSX10_init m56 := ⟨_, rfl⟩
  refine v_nM em57 ?_
  have hm57 : m57 0 0 = (o + 1172) := by rw [em57]; exact al_nxo rfl hm56 ho (by decide) alX10_init rfl
  have obm57 : OB m57 o 0 := by rw [em57]; exact al_ob rfl obm56 (o_lt0 hm56 (by decide))
  have ar56m57 : AR m57 (o + 56) 110 6 := by rw [em57]; exact al_ar rfl ar56m56 (o_lt hm56 (by decide))
  have ar77m57 : AR m57 (o + 77) 113 7 := by rw [em57]; exact al_ar rfl ar77m56 (o_lt hm56 (by decide))
  have ob1048m57 : OB m57 (o + 1048) 10 := by rw [em57]; exact al_ob rfl ob1048m56 (o_lt hm56 (by decide))
  obtain ⟨d59, ed59⟩ : ∃ z, z = wr (o + 1048) WSX10_init d58 := ⟨_, rfl⟩
  refine v_nD ed59 ?_
  have f0d59 : d59 o 0 = (o + 1) := by rw [ed59, wr_lt rfl (o_l1 (by decide))]; exact f0d58
  have f3d59 : d59 o 3 = (o + 2) := by rw [ed59, wr_lt rfl (o_l1 (by decide))]; exact f3d58
  have f13d59 : d59 o 13 = (o + 56) := by rw [ed59, wr_lt rfl (o_l1 (by decide))]; exact f13d58
  have f34d59 : d59 o 34 = (o + 77) := by rw [ed59, wr_lt rfl (o_l1 (by decide))]; exact f34d58
  refine v_aastO (t := 113) (c := 10) F dX0_init_343 ar77m57 (Nat.le_of_ble_eq_true rfl) rfl rfl rfl ob1048m57 (Nat.le_of_ble_eq_true rfl) ⟨by decide, by decide⟩ (fun _ _ => trivial) ?_
  obtain ⟨d60, ed60⟩ : ∃ z, z = st d59 (o + 77) 3 (o + 1048) := ⟨_, rfl⟩
  refine v_nD ed60 ?_
  have f0d60 : d60 o 0 = (o + 1) := by rw [ed60, st_na (o_ne (by decide))]; exact f0d59
  have f3d60 : d60 o 3 = (o + 2) := by rw [ed60, st_na (o_ne (by decide))]; exact f3d59
  have f13d60 : d60 o 13 = (o + 56) := by rw [ed60, st_na (o_ne (by decide))]; exact f13d59
  have f34d60 : d60 o 34 = (o + 77) := by rw [ed60, st_na (o_ne (by decide))]; exact f34d59
  refine v_iincN F dX0_init_344 (Nat.le_of_ble_eq_true rfl) rfl (y := 4) (by decide) (L' := [mA o, mI 4, mU]) rfl ?_
  refine v_goto F dX0_init_347 rfl ?_
  refine v_iload_n F dX0_init_325 rfl rfl ?_
  refine v_bipush F dX0_init_326 rfl ⟨by decide, by decide⟩ ?_
  refine v_icmp_gt F dX0_init_328 rfl (fun h => absurd h (show ¬ (6 : Int) < 4 from by decide)) (fun _ => ?_)
  refine v_aload_n F dX0_init_331 rfl rfl ?_
  refine v_getA F fg_X0_120 dX0_init_332 obm57 rfl f34d60 ?_
  refine v_iload_n F dX0_init_335 rfl rfl ?_
  refine v_new (c := 10) (n := 6) F dX0_init_336 rfl (Nat.le_of_ble_eq_true rfl) rfl ok_X10 q706 q951 q295 in_X10 tyX10_ok (fun _ _ => trivial) (Nat.le_of_ble_eq_true rfl) (Nat.le_of_ble_eq_true rfl) hm57 ?_
  have hn1172 : m57 0 0 = (o + 1172) := hm57
  obtain ⟨m58, em58⟩ : ∃ z, z = aln m57 ((10 : Nat) + 1 : Int) 0 := ⟨_, rfl⟩
  refine v_nM em58 ?_
  have hm58 : m58 0 0 = (o + 1173) := by rw [em58]; exact aln_nxo hm57 ho (by decide) rfl
  have obm58 : OB m58 o 0 := by rw [em58]; exact aln_ob obm57 (o_lt0 hm57 (by decide))
  have ar56m58 : AR m58 (o + 56) 110 6 := by rw [em58]; exact aln_ar ar56m57 (o_lt hm57 (by decide))
  have ar77m58 : AR m58 (o + 77) 113 7 := by rw [em58]; exact aln_ar ar77m57 (o_lt hm57 (by decide))
  have ob1172m58 : OB m58 (o + 1172) 10 := ⟨o_pos ho (by decide), by rw [em58, ← hn1172]; exact aln_1⟩
  refine v_dup_A F dX0_init_339 ?_
  refine v_callI F dX0_init_340 cn_X0_152 rfl ob1172m58.1 (vm_X10_init (o := (o + 1172)) (hm58.trans (o_da rfl)) ob1172m58) rfl (rOk.of rfl) ?_
  obtain ⟨m59, em59⟩ : ∃ z, z = al TSX10_init m58 := ⟨_, rfl⟩
  refine v_nM em59 ?_
  have hm59 : m59 0 0 = (o + 1296) := by rw [em59]; exact al_nxo rfl hm58 ho (by decide) alX10_init rfl
  have obm59 : OB m59 o 0 := by rw [em59]; exact al_ob rfl obm58 (o_lt0 hm58 (by decide))
  have ar56m59 : AR m59 (o + 56) 110 6 := by rw [em59]; exact al_ar rfl ar56m58 (o_lt hm58 (by decide))
  have ar77m59 : AR m59 (o + 77) 113 7 := by rw [em59]; exact al_ar rfl ar77m58 (o_lt hm58 (by decide))
  have ob1172m59 : OB m59 (o + 1172) 10 := by rw [em59]; exact al_ob rfl ob1172m58 (o_lt hm58 (by decide))
  obtain ⟨d61, ed61⟩ : ∃ z, z = wr (o + 1172) WSX10_init d60 := ⟨_, rfl⟩
  refine v_nD ed61 ?_
  have f0d61 : d61 o 0 = (o + 1) := by rw [ed61, wr_lt rfl (o_l1 (by decide))]; exact f0d60
  have f3d61 : d61 o 3 = (o + 2) := by rw [ed61, wr_lt rfl (o_l1 (by decide))]; exact f3d60
  have f13d61 : d61 o 13 = (o + 56) := by rw [ed61, wr_lt rfl (o_l1 (by decide))]; exact f13d60
  have f34d61 : d61 o 34 = (o + 77) := by rw [ed61, wr_lt rfl (o_l1 (by decide))]; exact f34d60
  refine v_aastO (t := 113) (c := 10) F dX0_init_343 ar77m59 (Nat.le_of_ble_eq_true rfl) rfl rfl rfl ob1172m59 (Nat.le_of_ble_eq_true rfl) ⟨by decide, by decide⟩ (fun _ _ => trivial) ?_
  obtain ⟨d62, ed62⟩ : ∃ z, z = st d61 (o + 77) 4 (o + 1172) := ⟨_, rfl⟩
  refine v_nD ed62 ?_
  have f0d62 : d62 o 0 = (o + 1) := by rw [ed62, st_na (o_ne (by decide))]; exact f0d61
  have f3d62 : d62 o 3 = (o + 2) := by rw [ed62, st_na (o_ne (by decide))]; exact f3d61
  have f13d62 : d62 o 13 = (o + 56) := by rw [ed62, st_na (o_ne (by decide))]; exact f13d61
  have f34d62 : d62 o 34 = (o + 77) := by rw [ed62, st_na (o_ne (by decide))]; exact f34d61
  refine v_iincN F dX0_init_344 (Nat.le_of_ble_eq_true rfl) rfl (y := 5) (by decide) (L' := [mA o, mI 5, mU]) rfl ?_
  refine v_goto F dX0_init_347 rfl ?_
  refine v_iload_n F dX0_init_325 rfl rfl ?_
  refine v_bipush F dX0_init_326 rfl ⟨by decide, by decide⟩ ?_
  refine v_icmp_gt F dX0_init_328 rfl (fun h => absurd h (show ¬ (6 : Int) < 5 from by decide)) (fun _ => ?_)
  refine v_aload_n F dX0_init_331 rfl rfl ?_
  refine v_getA F fg_X0_120 dX0_init_332 obm59 rfl f34d62 ?_
  refine v_iload_n F dX0_init_335 rfl rfl ?_
  refine v_new (c := 10) (n := 6) F dX0_init_336 rfl (Nat.le_of_ble_eq_true rfl) rfl ok_X10 q706 q951 q295 in_X10 tyX10_ok (fun _ _ => trivial) (Nat.le_of_ble_eq_true rfl) (Nat.le_of_ble_eq_true rfl) hm59 ?_
  have hn1296 : m59 0 0 = (o + 1296) := hm59
  obtain ⟨m60, em60⟩ : ∃ z, z = aln m59 ((10 : Nat) + 1 : Int) 0 := ⟨_, rfl⟩
  refine v_nM em60 ?_
  have hm60 : m60 0 0 = (o + 1297) := by rw [em60]; exact aln_nxo hm59 ho (by decide) rfl
  have obm60 : OB m60 o 0 := by rw [em60]; exact aln_ob obm59 (o_lt0 hm59 (by decide))
  have ar56m60 : AR m60 (o + 56) 110 6 := by rw [em60]; exact aln_ar ar56m59 (o_lt hm59 (by decide))
  have ar77m60 : AR m60 (o + 77) 113 7 := by rw [em60]; exact aln_ar ar77m59 (o_lt hm59 (by decide))
  have ob1296m60 : OB m60 (o + 1296) 10 := ⟨o_pos ho (by decide), by rw [em60, ← hn1296]; exact aln_1⟩
  refine v_dup_A F dX0_init_339 ?_
  refine v_callI F dX0_init_340 cn_X0_152 rfl ob1296m60.1 (vm_X10_init (o := (o + 1296)) (hm60.trans (o_da rfl)) ob1296m60) rfl (rOk.of rfl) ?_
  obtain ⟨m61, em61⟩ : ∃ z, z = al TSX10_init m60 := ⟨_, rfl⟩
  refine v_nM em61 ?_
  have hm61 : m61 0 0 = (o + 1420) := by rw [em61]; exact al_nxo rfl hm60 ho (by decide) alX10_init rfl
  have obm61 : OB m61 o 0 := by rw [em61]; exact al_ob rfl obm60 (o_lt0 hm60 (by decide))
  have ar56m61 : AR m61 (o + 56) 110 6 := by rw [em61]; exact al_ar rfl ar56m60 (o_lt hm60 (by decide))
  have ar77m61 : AR m61 (o + 77) 113 7 := by rw [em61]; exact al_ar rfl ar77m60 (o_lt hm60 (by decide))
  have ob1296m61 : OB m61 (o + 1296) 10 := by rw [em61]; exact al_ob rfl ob1296m60 (o_lt hm60 (by decide))
  obtain ⟨d63, ed63⟩ : ∃ z, z = wr (o + 1296) WSX10_init d62 := ⟨_, rfl⟩
  refine v_nD ed63 ?_
  have f0d63 : d63 o 0 = (o + 1) := by rw [ed63, wr_lt rfl (o_l1 (by decide))]; exact f0d62
  have f3d63 : d63 o 3 = (o + 2) := by rw [ed63, wr_lt rfl (o_l1 (by decide))]; exact f3d62
  have f13d63 : d63 o 13 = (o + 56) := by rw [ed63, wr_lt rfl (o_l1 (by decide))]; exact f13d62
  have f34d63 : d63 o 34 = (o + 77) := by rw [ed63, wr_lt rfl (o_l1 (by decide))]; exact f34d62
  refine v_aastO (t := 113) (c := 10) F dX0_init_343 ar77m61 (Nat.le_of_ble_eq_true rfl) rfl rfl rfl ob1296m61 (Nat.le_of_ble_eq_true rfl) ⟨by decide, by decide⟩ (fun _ _ => trivial) ?_
  obtain ⟨d64, ed64⟩ : ∃ z, z = st d63 (o + 77) 5 (o + 1296) := ⟨_, rfl⟩
  refine v_nD ed64 ?_
  have f0d64 : d64 o 0 = (o + 1) := by rw [ed64, st_na (o_ne (by decide))]; exact f0d63
  have f3d64 : d64 o 3 = (o + 2) := by rw [ed64, st_na (o_ne (by decide))]; exact f3d63
  have f13d64 : d64 o 13 = (o + 56) := by rw [ed64, st_na (o_ne (by decide))]; exact f13d63
  have f34d64 : d64 o 34 = (o + 77) := by rw [ed64, st_na (o_ne (by decide))]; exact f34d63
  refine v_iincN F dX0_init_344 (Nat.le_of_ble_eq_true rfl) rfl (y := 6) (by decide) (L' := [mA o, mI 6, mU]) rfl ?_
  refine v_goto F dX0_init_347 rfl ?_
  refine v_iload_n F dX0_init_325 rfl rfl ?_
  refine v_bipush F dX0_init_326 rfl ⟨by decide, by decide⟩ ?_
  refine v_icmp_gt F dX0_init_328 rfl (fun h => absurd h (show ¬ (6 : Int) < 6 from by decide)) (fun _ => ?_)
  refine v_aload_n F dX0_init_331 rfl rfl ?_
  refine v_getA F fg_X0_120 dX0_init_332 obm61 rfl f34d64 ?_
  refine v_iload_n F dX0_init_335 rfl rfl ?_
  refine v_new (c := 10) (n := 6) F dX0_init_336 rfl (Nat.le_of_ble_eq_true rfl) rfl ok_X10 q706 q951 q295 in_X10 tyX10_ok (fun _ _ => trivial) (Nat.le_of_ble_eq_true rfl) (Nat.le_of_ble_eq_true rfl) hm61 ?_
  have hn1420 : m61 0 0 = (o + 1420) := hm61
  obtain ⟨m62, em62⟩ : ∃ z, z = aln m61 ((10 : Nat) + 1 : Int) 0 := ⟨_, rfl⟩
  refine v_nM em62 ?_
  have hm62 : m62 0 0 = (o + 1421) := by rw [em62]; exact aln_nxo hm61 ho (by decide) rfl
  have obm62 : OB m62 o 0 := by rw [em62]; exact aln_ob obm61 (o_lt0 hm61 (by decide))
  have ar56m62 : AR m62 (o + 56) 110 6 := by rw [em62]; exact aln_ar ar56m61 (o_lt hm61 (by decide))
  have ar77m62 : AR m62 (o + 77) 113 7 := by rw [em62]; exact aln_ar ar77m61 (o_lt hm61 (by decide))
  have ob1420m62 : OB m62 (o + 1420) 10 := ⟨o_pos ho (by decide), by rw [em62, ← hn1420]; exact aln_1⟩
  refine v_dup_A F dX0_init_339 ?_
  refine v_callI F dX0_init_340 cn_X0_152 rfl ob1420m62.1 (vm_X10_init (o := (o + 1420)) (hm62.trans (o_da rfl)) ob1420m62) rfl (rOk.of rfl) ?_
  obtain ⟨m63, em63⟩ : ∃ z, z = al TSX10_init m62 := ⟨_, rfl⟩
  refine v_nM em63 ?_
  have hm63 : m63 0 0 = (o + 1544) := by rw [em63]; exact al_nxo rfl hm62 ho (by decide) alX10_init rfl
  have obm63 : OB m63 o 0 := by rw [em63]; exact al_ob rfl obm62 (o_lt0 hm62 (by decide))
  have ar56m63 : AR m63 (o + 56) 110 6 := by rw [em63]; exact al_ar rfl ar56m62 (o_lt hm62 (by decide))
  have ar77m63 : AR m63 (o + 77) 113 7 := by rw [em63]; exact al_ar rfl ar77m62 (o_lt hm62 (by decide))
  have ob1420m63 : OB m63 (o + 1420) 10 := by rw [em63]; exact al_ob rfl ob1420m62 (o_lt hm62 (by decide))
  obtain ⟨d65, ed65⟩ : ∃ z, z = wr (o + 1420) WSX10_init d64 := ⟨_, rfl⟩
  refine v_nD ed65 ?_
  have f0d65 : d65 o 0 = (o + 1) := by rw [ed65, wr_lt rfl (o_l1 (by decide))]; exact f0d64
  have f3d65 : d65 o 3 = (o + 2) := by rw [ed65, wr_lt rfl (o_l1 (by decide))]; exact f3d64
  have f13d65 : d65 o 13 = (o + 56) := by rw [ed65, wr_lt rfl (o_l1 (by decide))]; exact f13d64
  have f34d65 : d65 o 34 = (o + 77) := by rw [ed65, wr_lt rfl (o_l1 (by decide))]; exact f34d64
  refine v_aastO (t := 113) (c := 10) F dX0_init_343 ar77m63 (Nat.le_of_ble_eq_true rfl) rfl rfl rfl ob1420m63 (Nat.le_of_ble_eq_true rfl) ⟨by decide, by decide⟩ (fun _ _ => trivial) ?_
  obtain ⟨d66, ed66⟩ : ∃ z, z = st d65 (o + 77) 6 (o + 1420) := ⟨_, rfl⟩
  refine v_nD ed66 ?_
  have f0d66 : d66 o 0 = (o + 1) := by rw [ed66, st_na (o_ne (by decide))]; exact f0d65
  have f3d66 : d66 o 3 = (o + 2) := by rw [ed66, st_na (o_ne (by decide))]; exact f3d65
  have f13d66 : d66 o 13 = (o + 56) := by rw [ed66, st_na (o_ne (by decide))]; exact f13d65
  have f34d66 : d66 o 34 = (o + 77) := by rw [ed66, st_na (o_ne (by decide))]; exact f34d65
  refine v_iincN F dX0_init_344 (Nat.le_of_ble_eq_true rfl) rfl (y := 7) (by decide) (L' := [mA o, mI 7, mU]) rfl ?_
  refine v_goto F dX0_init_347 rfl ?_
  refine v_iload_n F dX0_init_325 rfl rfl ?_
  refine v_bipush F dX0_init_326 rfl ⟨by decide, by decide⟩ ?_
  refine v_icmp_gt F dX0_init_328 rfl (fun _ => ?_) (fun h => absurd (show (6 : Int) < 7 from by decide) h)
  have ed : d66 = wr o WSX0_init d := by rw [wf_X0_init]; rw [ed66, ed65, ed64, ed63, ed62, ed61, ed60, ed59, ed58, ed57, ed56, ed55, ed54, ed53, ed52, ed51, ed50, ed49, ed48, ed47, ed46, ed45, ed44, ed43, ed42, ed41, ed40, ed39, ed38, ed37, ed36, ed35, ed34, ed33, ed32, ed31, ed30, ed29, ed28, ed27, ed26, ed25, ed24, ed23, ed22, ed21, ed20, ed19, ed18, ed17, ed16, ed15, ed14, ed13, ed12, ed11, ed10, ed9, ed8, ed7, ed6, ed5, ed4, ed3, ed2, ed1]
  have em : m63 = al TSX0_init m := by rw [tf_X0_init]; rw [em63, em62, em61, em60, em59, em58, em57, em56, em55, em54, em53, em52, em51, em50, em49, em48, em47, em46, em45, em44, em43, em42, em41, em40, em39, em38, em37, em36, em35, em34, em33, em32, em31, em30, em29, em28, em27, em26, em25, em24, em23, em22, em21, em20, em19, em18, em17, em16, em15, em14, em13, em12, em11, em10, em9, em8, em7, em6, em5, em4, em3, em2, em1]
  rw [ed, em]
  exact kk
