set_option maxRecDepth 100000
noncomputable def opX (c : Nat) (d m : Dt) (s1 s2 s3 s4 s5 : Int) : Option (Dt × Dt × Int) := match c with
  | 0 => (fX0_feed d s1 s2 s3 s4 s5).map (fun p => (p.1, m, p.2))
  | 1 => (fX0_cut d s1).map (fun p => (p.1, m, p.2))
  | 2 => (fX0_day d s1).map (fun p => (p.1, m, p.2))
  | 3 => (fX0_area d s1).map (fun p => (p.1, m, p.2))
  | 4 => (fX0_border d s1 s2 s3 s4).map (fun p => (p.1, m, p.2))
  | 5 => (fX0_areaOf d s1 s2 s3).map (fun r => (d, m, r))
  | 6 => fX0_person d m s1 s2 s3
  | 7 => (fX0_move d s1 s2 s3).map (fun p => (p.1, m, p.2))
  | 8 => (fX0_fact d s1 s2 s3 s4 s5).map (fun p => (p.1, m, p.2))
  | 9 => (fX0_die d s1 s2).map (fun p => (p.1, m, p.2))
  | 10 => (fX0_age d s1 s2).map (fun r => (d, m, r))
  | 11 => (fX0_addressOf d s1 s2).map (fun r => (d, m, r))
  | 12 => (fX0_is d s1 s2 s3).map (fun r => (d, m, r))
  | 13 => (fX0_law d).map (fun p => (p.1, m, p.2))
  | 14 => (fX0_days d s1).map (fun r => (d, m, r))
  | 15 => (fX0_contest d s1 s2).map (fun r => (d, m, r))
  | 16 => (fX0_may d s1 s2).map (fun p => (p.1, m, p.2))
  | 17 => some (d, m, fX0_place d)
  | 18 => fX0_stand d m s1 s2 s3
  | 19 => (fX0_sign d s1 s2).map (fun p => (p.1, m, p.2))
  | 20 => (fX0_withdraw d s1).map (fun p => (p.1, m, p.2))
  | 21 => (fX0_nomination d s1 s2).map (fun r => (d, m, r))
  | 22 => (fX0_freeze d).map (fun p => (p.1, m, p.2))
  | 23 => (fX0_roll d s1 s2).map (fun r => (d, m, r))
  | 24 => (fX0_appeal d s1 s2).map (fun p => (p.1, m, p.2))
  | 25 => (fX0_decide d s1 s2).map (fun p => (p.1, m, p.2))
  | 26 => (fX0_sheets d s1 s2).map (fun r => (d, m, r))
  | 27 => (fX0_candidate d s1 s2 s3).map (fun r => (d, m, r))
  | 28 => (fX0_lots d s1 (jOr (jShl s2 32) (jAnd s3 4294967295))).map (fun p => (p.1, m, p.2))
  | 29 => (fX0_station d).map (fun p => (p.1, m, p.2))
  | 30 => (fX0_clock d s1 s2).map (fun p => (p.1, m, p.2))
  | 31 => (fX0_cutLine d s1).map (fun p => (p.1, m, p.2))
  | 32 => (fX0_mend d s1).map (fun p => (p.1, m, p.2))
  | 33 => fX0_checkIn d m s1 s2
  | 34 => (fX0_spoil d s1).map (fun p => (p.1, m, p.2))
  | 35 => (fX0_put d s1).map (fun p => (p.1, m, p.2))
  | 36 => fX0_ask d m s1
  | 37 => (fX0_arrive d s1 s2).map (fun p => (p.1, m, p.2))
  | 38 => (fX0_open d).map (fun p => (p.1, m, p.2))
  | 39 => (fX0_close d s1).map (fun p => (p.1, m, p.2))
  | 40 => (fX0_issue d s1 s2).map (fun r => (d, m, r))
  | 41 => (fX0_knows d s1 s2).map (fun r => (d, m, r))
  | 42 => (fX0_box d s1 s2).map (fun r => (d, m, r))
  | 43 => (fX0_paper d s1 s2 s3).map (fun r => (d, m, r))
  | 44 => (fX0_record d s1 s2 s3).map (fun r => (d, m, r))
  | 45 => (fX0_misread d s1 s2 s3 s4).map (fun p => (p.1, m, p.2))
  | 46 => (fX0_strike d s1 s2 s3).map (fun p => (p.1, m, p.2))
  | 47 => (fX0_voidBox d s1 s2).map (fun p => (p.1, m, p.2))
  | 48 => (fX0_count d s1 s2).map (fun p => (p.1, m, p.2))
  | 49 => (fX0_elected d s1).map (fun r => (d, m, r))
  | 50 => (fX0_round d s1 s2).map (fun r => (d, m, r))
  | 51 => (fX0_act d s1 s2).map (fun r => (d, m, r))
  | 52 => (fX0_sample d s1 s2 (jOr (jShl s3 32) (jAnd s4 4294967295))).map (fun p => (p.1, m, p.2))
  | 53 => (fX0_drawn d s1 s2).map (fun r => (d, m, r))
  | 54 => some (d, m, fX0_risk d s1)
  | 55 => some (d, m, fX0_stops d s1 s2)
  | 56 => (fX0_head d s1).map (fun r => (d, m, r))
  | 57 => (fX0_told d s1).map (fun r => (d, m, r))
  | _ => some (d, m, 0)
noncomputable def opM (c : Nat) (d : Dt) (s1 s2 s3 s4 s5 : Int) : Option (Dt × Int) := match c with
  | 0 => fX11_feed d s1 s2 s3 s4 s5
  | 1 => fX11_cut d s1
  | 2 => fX11_day d s1
  | 3 => fX11_area d s1
  | 4 => fX11_border d s1 s2 s3 s4
  | 5 => (fX11_areaOf d s1 s2 s3).map (fun r => (d, r))
  | 6 => fX11_person d s1 s2 s3
  | 7 => fX11_move d s1 s2 s3
  | 8 => fX11_fact d s1 s2 s3 s4 s5
  | 9 => fX11_die d s1 s2
  | 10 => (fX11_age d s1 s2).map (fun r => (d, r))
  | 11 => (fX11_addressOf d s1 s2).map (fun r => (d, r))
  | 12 => (fX11_is d s1 s2 s3).map (fun r => (d, r))
  | 13 => fX11_law d
  | 14 => (fX11_days d s1).map (fun r => (d, r))
  | 15 => (fX11_contest d s1 s2).map (fun r => (d, r))
  | 16 => fX11_may d s1 s2
  | 17 => some (d, fX11_place d)
  | 18 => fX11_stand d s1 s2 s3
  | 19 => fX11_sign d s1 s2
  | 20 => fX11_withdraw d s1
  | 21 => (fX11_nomination d s1 s2).map (fun r => (d, r))
  | 22 => fX11_freeze d
  | 23 => (fX11_roll d s1 s2).map (fun r => (d, r))
  | 24 => fX11_appeal d s1 s2
  | 25 => fX11_decide d s1 s2
  | 26 => (fX11_sheets d s1 s2).map (fun r => (d, r))
  | 27 => (fX11_candidate d s1 s2 s3).map (fun r => (d, r))
  | 28 => fX11_lots d s1 (jOr (jShl s2 32) (jAnd s3 4294967295))
  | 29 => fX11_station d
  | 30 => fX11_clock d s1 s2
  | 31 => fX11_cutLine d s1
  | 32 => fX11_mend d s1
  | 33 => fX11_checkIn d s1 s2
  | 34 => fX11_spoil d s1
  | 35 => fX11_put d s1
  | 36 => fX11_ask d s1
  | 37 => fX11_arrive d s1 s2
  | 38 => fX11_open d
  | 39 => fX11_close d s1
  | 40 => (fX11_issue d s1 s2).map (fun r => (d, r))
  | 41 => (fX11_knows d s1 s2).map (fun r => (d, r))
  | 42 => (fX11_box d s1 s2).map (fun r => (d, r))
  | 43 => (fX11_paper d s1 s2 s3).map (fun r => (d, r))
  | 44 => (fX11_record d s1 s2 s3).map (fun r => (d, r))
  | 45 => fX11_misread d s1 s2 s3 s4
  | 46 => fX11_strike d s1 s2 s3
  | 47 => fX11_voidBox d s1 s2
  | 48 => fX11_count d s1 s2
  | 49 => (fX11_elected d s1).map (fun r => (d, r))
  | 50 => (fX11_round d s1 s2).map (fun r => (d, r))
  | 51 => (fX11_act d s1 s2).map (fun r => (d, r))
  | 52 => fX11_sample d s1 s2 (jOr (jShl s3 32) (jAnd s4 4294967295))
  | 53 => (fX11_drawn d s1 s2).map (fun r => (d, r))
  | 54 => some (d, fX11_risk d s1)
  | 55 => some (d, fX11_stops d s1 s2)
  | 56 => (fX11_head d s1).map (fun r => (d, r))
  | 57 => (fX11_told d s1).map (fun r => (d, r))
  | _ => some (d, 0)
