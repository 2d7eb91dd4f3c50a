set_option maxRecDepth 100000
/-- FavourTownLaw.town(LFavourTown;[J)I -/
abbrev K_X0_town : Nat := 0
noncomputable def R_X0_town (d pc : Nat) (ls : ALs) (st : List Value) (h : AH) : Option (AOut × AH) := aR (exec tTab d) k_X0_town hd_X0_town (pc, ls, st, h)
theorem r_X0_town_0 {d : Nat} {a1 a0 : Nat} {l2 : Option Value} {h : AH} : R_X0_town d 0 [some (.ref a0), some (.ref a1), l2] [] h = ((hci h a0).bind (lkN [(0, 37)])).bind fun y => aK (exec tTab d y [.ref a0] h) (fun v h1 => R_X0_town d 6 [some (.ref a0), some (.ref a1), l2] (v.toList ++ [.int ((nI 0)), .ref a1]) h1) (fun E h1 => aT (exec tTab d) k_X0_town hd_X0_town 3 [some (.ref a0), some (.ref a1), l2] E h1) := by
  refine (p_aload rfl rfl).trans ?_
  refine (p_const rfl).trans ?_
  refine (p_aload rfl rfl).trans ?_
  exact s_callV (L := [(0, 37)]) (n := 0) (b := a0) (rest := [.int ((nI 0)), .ref a1]) rfl rfl rfl
theorem r_X0_town_12 {d : Nat} {l0 l1 l2 : Option Value} {h : AH} : R_X0_town d 12 [l0, l1, l2] [] h = some (.inl (some (.int ((nI 1)))), h) := by
  refine (p_const rfl).trans ?_
  exact s_iretT rfl rfl
theorem r_X0_town_15 {d : Nat} {l0 l1 l2 : Option Value} {h : AH} : R_X0_town d 15 [l0, l1, l2] [] h = some (.inl (some (.int ((nI 2)))), h) := by
  refine (p_const rfl).trans ?_
  exact s_iretT rfl rfl
theorem r_X0_town_6 {d : Nat} {b0 : Nat} {s1 s2 : Int32} {l0 l1 l2 : Option Value} {h : AH} : R_X0_town d 6 [l0, l1, l2] [.int (s2), .int (s1), .ref b0] h = (hsj h 2 b0 s1 s2.toInt64).bind fun h1 => R_X0_town d 8 [l0, l1, l2] [] h1 := by
  refine (p_i2l rfl).trans ?_
  exact s_last rfl
theorem r_X0_town_8 {d : Nat} {l0 l1 l2 : Option Value} {h : AH} : R_X0_town d 8 [l0, l1, l2] [] h = some (.inl (some (.int ((nI 0)))), h) := by
  refine (p_goto rfl).trans ?_
  refine (p_const rfl).trans ?_
  exact s_iretT rfl rfl
theorem e_X0_town {d : Nat} {a0 a1 : Nat} {h : AH} : exec tTab (d + 1) K_X0_town [.ref a0, .ref a1] h = R_X0_town d 0 [some (.ref a0), some (.ref a1), none] [] h := exec_eq (cd := k_X0_town) (hd := hd_X0_town) (L := 3) rfl rfl rfl
theorem h_X0_town_3_22 {d : Nat} {ls : ALs} {h : AH} : aT (exec tTab d) k_X0_town hd_X0_town 3 ls 22 h = R_X0_town d 12 (ls.set 2 none) [] h := rfl
theorem h_X0_town_3_23 {d : Nat} {ls : ALs} {h : AH} : aT (exec tTab d) k_X0_town hd_X0_town 3 ls 23 h = R_X0_town d 15 (ls.set 2 none) [] h := rfl
/-- FavourTownLaw.temper(LFavourTown;[J)I -/
abbrev K_X0_temper : Nat := 1
noncomputable def R_X0_temper (d pc : Nat) (ls : ALs) (st : List Value) (h : AH) : Option (AOut × AH) := aR (exec tTab d) k_X0_temper hd_X0_temper (pc, ls, st, h)
theorem r_X0_temper_0 {d : Nat} {a1 a0 : Nat} {l2 : Option Value} {h : AH} : R_X0_temper d 0 [some (.ref a0), some (.ref a1), l2] [] h = ((hci h a0).bind (lkN [(0, 49)])).bind fun y => aK (exec tTab d y [.ref a0] h) (fun v h1 => R_X0_temper d 6 [some (.ref a0), some (.ref a1), l2] (v.toList ++ [.int ((nI 0)), .ref a1]) h1) (fun E h1 => aT (exec tTab d) k_X0_temper hd_X0_temper 3 [some (.ref a0), some (.ref a1), l2] E h1) := by
  refine (p_aload rfl rfl).trans ?_
  refine (p_const rfl).trans ?_
  refine (p_aload rfl rfl).trans ?_
  exact s_callV (L := [(0, 49)]) (n := 0) (b := a0) (rest := [.int ((nI 0)), .ref a1]) rfl rfl rfl
theorem r_X0_temper_12 {d : Nat} {l0 l1 l2 : Option Value} {h : AH} : R_X0_temper d 12 [l0, l1, l2] [] h = some (.inl (some (.int ((nI 1)))), h) := by
  refine (p_const rfl).trans ?_
  exact s_iretT rfl rfl
theorem r_X0_temper_15 {d : Nat} {l0 l1 l2 : Option Value} {h : AH} : R_X0_temper d 15 [l0, l1, l2] [] h = some (.inl (some (.int ((nI 2)))), h) := by
  refine (p_const rfl).trans ?_
  exact s_iretT rfl rfl
theorem r_X0_temper_6 {d : Nat} {b0 : Nat} {s1 s2 : Int32} {l0 l1 l2 : Option Value} {h : AH} : R_X0_temper d 6 [l0, l1, l2] [.int (s2), .int (s1), .ref b0] h = (hsj h 2 b0 s1 s2.toInt64).bind fun h1 => R_X0_temper d 8 [l0, l1, l2] [] h1 := by
  refine (p_i2l rfl).trans ?_
  exact s_last rfl
theorem r_X0_temper_8 {d : Nat} {l0 l1 l2 : Option Value} {h : AH} : R_X0_temper d 8 [l0, l1, l2] [] h = some (.inl (some (.int ((nI 0)))), h) := by
  refine (p_goto rfl).trans ?_
  refine (p_const rfl).trans ?_
  exact s_iretT rfl rfl
theorem e_X0_temper {d : Nat} {a0 a1 : Nat} {h : AH} : exec tTab (d + 1) K_X0_temper [.ref a0, .ref a1] h = R_X0_temper d 0 [some (.ref a0), some (.ref a1), none] [] h := exec_eq (cd := k_X0_temper) (hd := hd_X0_temper) (L := 3) rfl rfl rfl
theorem h_X0_temper_3_22 {d : Nat} {ls : ALs} {h : AH} : aT (exec tTab d) k_X0_temper hd_X0_temper 3 ls 22 h = R_X0_temper d 12 (ls.set 2 none) [] h := rfl
theorem h_X0_temper_3_23 {d : Nat} {ls : ALs} {h : AH} : aT (exec tTab d) k_X0_temper hd_X0_temper 3 ls 23 h = R_X0_temper d 15 (ls.set 2 none) [] h := rfl
/-- FavourTownLaw.has(LFavourTown;II[J)I -/
abbrev K_X0_has : Nat := 2
noncomputable def R_X0_has (d pc : Nat) (ls : ALs) (st : List Value) (h : AH) : Option (AOut × AH) := aR (exec tTab d) k_X0_has hd_X0_has (pc, ls, st, h)
theorem r_X0_has_0 {d : Nat} {a3 a0 : Nat} {x1 x2 : Int32} {l4 : Option Value} {h : AH} : R_X0_has d 0 [some (.ref a0), some (.int (x1)), some (.int (x2)), some (.ref a3), l4] [] h = ((hci h a0).bind (lkN [(0, 57)])).bind fun y => aK (exec tTab d y [.ref a0, .int (x1), .int (x2)] h) (fun v h1 => R_X0_has d 8 [some (.ref a0), some (.int (x1)), some (.int (x2)), some (.ref a3), l4] (v.toList ++ [.int ((nI 0)), .ref a3]) h1) (fun E h1 => aT (exec tTab d) k_X0_has hd_X0_has 5 [some (.ref a0), some (.int (x1)), some (.int (x2)), some (.ref a3), l4] E h1) := by
  refine (p_aload rfl rfl).trans ?_
  refine (p_const rfl).trans ?_
  refine (p_aload rfl rfl).trans ?_
  refine (p_iload rfl rfl).trans ?_
  refine (p_iload rfl rfl).trans ?_
  exact s_callV (L := [(0, 57)]) (n := 2) (b := a0) (rest := [.int ((nI 0)), .ref a3]) rfl rfl rfl
theorem r_X0_has_15 {d : Nat} {l0 l1 l2 l3 l4 : Option Value} {h : AH} : R_X0_has d 15 [l0, l1, l2, l3, l4] [] h = some (.inl (some (.int ((nI 1)))), h) := by
  refine (p_const rfl).trans ?_
  exact s_iretT rfl rfl
theorem r_X0_has_8 {d : Nat} {b0 : Nat} {s1 s2 : Int32} {l0 l1 l2 l3 l4 : Option Value} {h : AH} : R_X0_has d 8 [l0, l1, l2, l3, l4] [.int (s2), .int (s1), .ref b0] h = (hsj h 2 b0 s1 s2.toInt64).bind fun h1 => R_X0_has d 10 [l0, l1, l2, l3, l4] [] h1 := by
  refine (p_i2l rfl).trans ?_
  exact s_last rfl
theorem r_X0_has_10 {d : Nat} {l0 l1 l2 l3 l4 : Option Value} {h : AH} : R_X0_has d 10 [l0, l1, l2, l3, l4] [] h = some (.inl (some (.int ((nI 0)))), h) := by
  refine (p_goto rfl).trans ?_
  refine (p_const rfl).trans ?_
  exact s_iretT rfl rfl
theorem e_X0_has {d : Nat} {a0 a3 : Nat} {x1 x2 : Int32} {h : AH} : exec tTab (d + 1) K_X0_has [.ref a0, .int x1, .int x2, .ref a3] h = R_X0_has d 0 [some (.ref a0), some (.int x1), some (.int x2), some (.ref a3), none] [] h := exec_eq (cd := k_X0_has) (hd := hd_X0_has) (L := 5) rfl rfl rfl
theorem h_X0_has_5_24 {d : Nat} {ls : ALs} {h : AH} : aT (exec tTab d) k_X0_has hd_X0_has 5 ls 24 h = R_X0_has d 15 (ls.set 4 none) [] h := rfl
/-- FavourTownLaw.give(LFavourTown;IIIIZ[J)I -/
abbrev K_X0_give : Nat := 3
noncomputable def R_X0_give (d pc : Nat) (ls : ALs) (st : List Value) (h : AH) : Option (AOut × AH) := aR (exec tTab d) k_X0_give hd_X0_give (pc, ls, st, h)
theorem r_X0_give_0 {d : Nat} {a6 a0 : Nat} {x1 x2 x3 x4 x5 : Int32} {l7 : Option Value} {h : AH} : R_X0_give d 0 [some (.ref a0), some (.int (x1)), some (.int (x2)), some (.int (x3)), some (.int (x4)), some (.int (x5)), some (.ref a6), l7] [] h = ((hci h a0).bind (lkN [(0, 60)])).bind fun y => aK (exec tTab d y [.ref a0, .int (x1), .int (x2), .int (x3), .int (x4), .int (x5)] h) (fun v h1 => R_X0_give d 14 [some (.ref a0), some (.int (x1)), some (.int (x2)), some (.int (x3)), some (.int (x4)), some (.int (x5)), some (.ref a6), l7] (v.toList ++ [.int ((nI 0)), .ref a6]) h1) (fun E h1 => aT (exec tTab d) k_X0_give hd_X0_give 11 [some (.ref a0), some (.int (x1)), some (.int (x2)), some (.int (x3)), some (.int (x4)), some (.int (x5)), some (.ref a6), l7] E h1) := by
  refine (p_aload rfl rfl).trans ?_
  refine (p_const rfl).trans ?_
  refine (p_aload rfl rfl).trans ?_
  refine (p_iload rfl rfl).trans ?_
  refine (p_iload rfl rfl).trans ?_
  refine (p_iload rfl rfl).trans ?_
  refine (p_iload rfl rfl).trans ?_
  refine (p_iload rfl rfl).trans ?_
  exact s_callV (L := [(0, 60)]) (n := 5) (b := a0) (rest := [.int ((nI 0)), .ref a6]) rfl rfl rfl
theorem r_X0_give_21 {d : Nat} {l0 l1 l2 l3 l4 l5 l6 l7 : Option Value} {h : AH} : R_X0_give d 21 [l0, l1, l2, l3, l4, l5, l6, l7] [] h = some (.inl (some (.int ((nI 1)))), h) := by
  refine (p_const rfl).trans ?_
  exact s_iretT rfl rfl
theorem r_X0_give_25 {d : Nat} {l0 l1 l2 l3 l4 l5 l6 l7 : Option Value} {h : AH} : R_X0_give d 25 [l0, l1, l2, l3, l4, l5, l6, l7] [] h = some (.inl (some (.int ((nI 2)))), h) := by
  refine (p_const rfl).trans ?_
  exact s_iretT rfl rfl
theorem r_X0_give_14 {d : Nat} {b0 : Nat} {s1 s2 : Int32} {l0 l1 l2 l3 l4 l5 l6 l7 : Option Value} {h : AH} : R_X0_give d 14 [l0, l1, l2, l3, l4, l5, l6, l7] [.int (s2), .int (s1), .ref b0] h = (hsj h 2 b0 s1 s2.toInt64).bind fun h1 => R_X0_give d 16 [l0, l1, l2, l3, l4, l5, l6, l7] [] h1 := by
  refine (p_i2l rfl).trans ?_
  exact s_last rfl
theorem r_X0_give_16 {d : Nat} {l0 l1 l2 l3 l4 l5 l6 l7 : Option Value} {h : AH} : R_X0_give d 16 [l0, l1, l2, l3, l4, l5, l6, l7] [] h = some (.inl (some (.int ((nI 0)))), h) := by
  refine (p_goto rfl).trans ?_
  refine (p_const rfl).trans ?_
  exact s_iretT rfl rfl
theorem e_X0_give {d : Nat} {a0 a6 : Nat} {x1 x2 x3 x4 x5 : Int32} {h : AH} : exec tTab (d + 1) K_X0_give [.ref a0, .int x1, .int x2, .int x3, .int x4, .int x5, .ref a6] h = R_X0_give d 0 [some (.ref a0), some (.int x1), some (.int x2), some (.int x3), some (.int x4), some (.int x5), some (.ref a6), none] [] h := exec_eq (cd := k_X0_give) (hd := hd_X0_give) (L := 8) rfl rfl rfl
theorem h_X0_give_11_24 {d : Nat} {ls : ALs} {h : AH} : aT (exec tTab d) k_X0_give hd_X0_give 11 ls 24 h = R_X0_give d 21 (ls.set 7 none) [] h := rfl
theorem h_X0_give_11_22 {d : Nat} {ls : ALs} {h : AH} : aT (exec tTab d) k_X0_give hd_X0_give 11 ls 22 h = R_X0_give d 25 (ls.set 7 none) [] h := rfl
/-- FavourTownLaw.pass(LFavourTown;II[J)I -/
abbrev K_X0_pass : Nat := 4
noncomputable def R_X0_pass (d pc : Nat) (ls : ALs) (st : List Value) (h : AH) : Option (AOut × AH) := aR (exec tTab d) k_X0_pass hd_X0_pass (pc, ls, st, h)
theorem r_X0_pass_0 {d : Nat} {a3 a0 : Nat} {x1 x2 : Int32} {l4 : Option Value} {h : AH} : R_X0_pass d 0 [some (.ref a0), some (.int (x1)), some (.int (x2)), some (.ref a3), l4] [] h = ((hci h a0).bind (lkN [(0, 63)])).bind fun y => aK (exec tTab d y [.ref a0, .int (x1), .int (x2)] h) (fun v h1 => R_X0_pass d 8 [some (.ref a0), some (.int (x1)), some (.int (x2)), some (.ref a3), l4] (v.toList ++ [.int ((nI 0)), .ref a3]) h1) (fun E h1 => aT (exec tTab d) k_X0_pass hd_X0_pass 5 [some (.ref a0), some (.int (x1)), some (.int (x2)), some (.ref a3), l4] E h1) := by
  refine (p_aload rfl rfl).trans ?_
  refine (p_const rfl).trans ?_
  refine (p_aload rfl rfl).trans ?_
  refine (p_iload rfl rfl).trans ?_
  refine (p_iload rfl rfl).trans ?_
  exact s_callV (L := [(0, 63)]) (n := 2) (b := a0) (rest := [.int ((nI 0)), .ref a3]) rfl rfl rfl
theorem r_X0_pass_15 {d : Nat} {l0 l1 l2 l3 l4 : Option Value} {h : AH} : R_X0_pass d 15 [l0, l1, l2, l3, l4] [] h = some (.inl (some (.int ((nI 1)))), h) := by
  refine (p_const rfl).trans ?_
  exact s_iretT rfl rfl
theorem r_X0_pass_19 {d : Nat} {l0 l1 l2 l3 l4 : Option Value} {h : AH} : R_X0_pass d 19 [l0, l1, l2, l3, l4] [] h = some (.inl (some (.int ((nI 2)))), h) := by
  refine (p_const rfl).trans ?_
  exact s_iretT rfl rfl
theorem r_X0_pass_8 {d : Nat} {b0 : Nat} {s1 s2 : Int32} {l0 l1 l2 l3 l4 : Option Value} {h : AH} : R_X0_pass d 8 [l0, l1, l2, l3, l4] [.int (s2), .int (s1), .ref b0] h = (hsj h 2 b0 s1 s2.toInt64).bind fun h1 => R_X0_pass d 10 [l0, l1, l2, l3, l4] [] h1 := by
  refine (p_i2l rfl).trans ?_
  exact s_last rfl
theorem r_X0_pass_10 {d : Nat} {l0 l1 l2 l3 l4 : Option Value} {h : AH} : R_X0_pass d 10 [l0, l1, l2, l3, l4] [] h = some (.inl (some (.int ((nI 0)))), h) := by
  refine (p_goto rfl).trans ?_
  refine (p_const rfl).trans ?_
  exact s_iretT rfl rfl
theorem e_X0_pass {d : Nat} {a0 a3 : Nat} {x1 x2 : Int32} {h : AH} : exec tTab (d + 1) K_X0_pass [.ref a0, .int x1, .int x2, .ref a3] h = R_X0_pass d 0 [some (.ref a0), some (.int x1), some (.int x2), some (.ref a3), none] [] h := exec_eq (cd := k_X0_pass) (hd := hd_X0_pass) (L := 5) rfl rfl rfl
theorem h_X0_pass_5_24 {d : Nat} {ls : ALs} {h : AH} : aT (exec tTab d) k_X0_pass hd_X0_pass 5 ls 24 h = R_X0_pass d 15 (ls.set 4 none) [] h := rfl
theorem h_X0_pass_5_22 {d : Nat} {ls : ALs} {h : AH} : aT (exec tTab d) k_X0_pass hd_X0_pass 5 ls 22 h = R_X0_pass d 19 (ls.set 4 none) [] h := rfl
/-- FavourTownLaw.call(LFavourTown;I[J)I -/
abbrev K_X0_call : Nat := 5
noncomputable def R_X0_call (d pc : Nat) (ls : ALs) (st : List Value) (h : AH) : Option (AOut × AH) := aR (exec tTab d) k_X0_call hd_X0_call (pc, ls, st, h)
theorem r_X0_call_0 {d : Nat} {a2 a0 : Nat} {x1 : Int32} {l3 : Option Value} {h : AH} : R_X0_call d 0 [some (.ref a0), some (.int (x1)), some (.ref a2), l3] [] h = ((hci h a0).bind (lkN [(0, 65)])).bind fun y => aK (exec tTab d y [.ref a0, .int (x1)] h) (fun v h1 => R_X0_call d 7 [some (.ref a0), some (.int (x1)), some (.ref a2), l3] (v.toList ++ [.int ((nI 0)), .ref a2]) h1) (fun E h1 => aT (exec tTab d) k_X0_call hd_X0_call 4 [some (.ref a0), some (.int (x1)), some (.ref a2), l3] E h1) := by
  refine (p_aload rfl rfl).trans ?_
  refine (p_const rfl).trans ?_
  refine (p_aload rfl rfl).trans ?_
  refine (p_iload rfl rfl).trans ?_
  exact s_callV (L := [(0, 65)]) (n := 1) (b := a0) (rest := [.int ((nI 0)), .ref a2]) rfl rfl rfl
theorem r_X0_call_13 {d : Nat} {l0 l1 l2 l3 : Option Value} {h : AH} : R_X0_call d 13 [l0, l1, l2, l3] [] h = some (.inl (some (.int ((nI 1)))), h) := by
  refine (p_const rfl).trans ?_
  exact s_iretT rfl rfl
theorem r_X0_call_7 {d : Nat} {b0 : Nat} {s1 s2 : Int32} {l0 l1 l2 l3 : Option Value} {h : AH} : R_X0_call d 7 [l0, l1, l2, l3] [.int (s2), .int (s1), .ref b0] h = (hsj h 2 b0 s1 s2.toInt64).bind fun h1 => R_X0_call d 9 [l0, l1, l2, l3] [] h1 := by
  refine (p_i2l rfl).trans ?_
  exact s_last rfl
theorem r_X0_call_9 {d : Nat} {l0 l1 l2 l3 : Option Value} {h : AH} : R_X0_call d 9 [l0, l1, l2, l3] [] h = some (.inl (some (.int ((nI 0)))), h) := by
  refine (p_goto rfl).trans ?_
  refine (p_const rfl).trans ?_
  exact s_iretT rfl rfl
theorem e_X0_call {d : Nat} {a0 a2 : Nat} {x1 : Int32} {h : AH} : exec tTab (d + 1) K_X0_call [.ref a0, .int x1, .ref a2] h = R_X0_call d 0 [some (.ref a0), some (.int x1), some (.ref a2), none] [] h := exec_eq (cd := k_X0_call) (hd := hd_X0_call) (L := 4) rfl rfl rfl
theorem h_X0_call_4_24 {d : Nat} {ls : ALs} {h : AH} : aT (exec tTab d) k_X0_call hd_X0_call 4 ls 24 h = R_X0_call d 13 (ls.set 3 none) [] h := rfl
/-- FavourTownLaw.days(LFavourTown;I[J)I -/
abbrev K_X0_days : Nat := 6
noncomputable def R_X0_days (d pc : Nat) (ls : ALs) (st : List Value) (h : AH) : Option (AOut × AH) := aR (exec tTab d) k_X0_days hd_X0_days (pc, ls, st, h)
theorem r_X0_days_0 {d : Nat} {a2 a0 : Nat} {x1 : Int32} {l3 : Option Value} {h : AH} : R_X0_days d 0 [some (.ref a0), some (.int (x1)), some (.ref a2), l3] [] h = ((hci h a0).bind (lkN [(0, 66)])).bind fun y => aK (exec tTab d y [.ref a0, .int (x1)] h) (fun v h1 => R_X0_days d 7 [some (.ref a0), some (.int (x1)), some (.ref a2), l3] (v.toList ++ [.int ((nI 0)), .ref a2]) h1) (fun E h1 => aT (exec tTab d) k_X0_days hd_X0_days 4 [some (.ref a0), some (.int (x1)), some (.ref a2), l3] E h1) := by
  refine (p_aload rfl rfl).trans ?_
  refine (p_const rfl).trans ?_
  refine (p_aload rfl rfl).trans ?_
  refine (p_iload rfl rfl).trans ?_
  exact s_callV (L := [(0, 66)]) (n := 1) (b := a0) (rest := [.int ((nI 0)), .ref a2]) rfl rfl rfl
theorem r_X0_days_13 {d : Nat} {l0 l1 l2 l3 : Option Value} {h : AH} : R_X0_days d 13 [l0, l1, l2, l3] [] h = some (.inl (some (.int ((nI 1)))), h) := by
  refine (p_const rfl).trans ?_
  exact s_iretT rfl rfl
theorem r_X0_days_7 {d : Nat} {b0 : Nat} {s1 s2 : Int32} {l0 l1 l2 l3 : Option Value} {h : AH} : R_X0_days d 7 [l0, l1, l2, l3] [.int (s2), .int (s1), .ref b0] h = (hsj h 2 b0 s1 s2.toInt64).bind fun h1 => R_X0_days d 9 [l0, l1, l2, l3] [] h1 := by
  refine (p_i2l rfl).trans ?_
  exact s_last rfl
theorem r_X0_days_9 {d : Nat} {l0 l1 l2 l3 : Option Value} {h : AH} : R_X0_days d 9 [l0, l1, l2, l3] [] h = some (.inl (some (.int ((nI 0)))), h) := by
  refine (p_goto rfl).trans ?_
  refine (p_const rfl).trans ?_
  exact s_iretT rfl rfl
theorem e_X0_days {d : Nat} {a0 a2 : Nat} {x1 : Int32} {h : AH} : exec tTab (d + 1) K_X0_days [.ref a0, .int x1, .ref a2] h = R_X0_days d 0 [some (.ref a0), some (.int x1), some (.ref a2), none] [] h := exec_eq (cd := k_X0_days) (hd := hd_X0_days) (L := 4) rfl rfl rfl
theorem h_X0_days_4_22 {d : Nat} {ls : ALs} {h : AH} : aT (exec tTab d) k_X0_days hd_X0_days 4 ls 22 h = R_X0_days d 13 (ls.set 3 none) [] h := rfl
/-- FavourTownLaw.look(LFavourTown;II[J)I -/
abbrev K_X0_look : Nat := 7
noncomputable def R_X0_look (d pc : Nat) (ls : ALs) (st : List Value) (h : AH) : Option (AOut × AH) := aR (exec tTab d) k_X0_look hd_X0_look (pc, ls, st, h)
theorem r_X0_look_0 {d : Nat} {a3 a0 : Nat} {x1 x2 : Int32} {l4 : Option Value} {h : AH} : R_X0_look d 0 [some (.ref a0), some (.int (x1)), some (.int (x2)), some (.ref a3), l4] [] h = ((hci h a0).bind (lkN [(0, 67)])).bind fun y => aK (exec tTab d y [.ref a0, .int (x1), .int (x2)] h) (fun v h1 => R_X0_look d 8 [some (.ref a0), some (.int (x1)), some (.int (x2)), some (.ref a3), l4] (v.toList ++ [.int ((nI 0)), .ref a3]) h1) (fun E h1 => aT (exec tTab d) k_X0_look hd_X0_look 5 [some (.ref a0), some (.int (x1)), some (.int (x2)), some (.ref a3), l4] E h1) := by
  refine (p_aload rfl rfl).trans ?_
  refine (p_const rfl).trans ?_
  refine (p_aload rfl rfl).trans ?_
  refine (p_iload rfl rfl).trans ?_
  refine (p_iload rfl rfl).trans ?_
  exact s_callV (L := [(0, 67)]) (n := 2) (b := a0) (rest := [.int ((nI 0)), .ref a3]) rfl rfl rfl
theorem r_X0_look_15 {d : Nat} {l0 l1 l2 l3 l4 : Option Value} {h : AH} : R_X0_look d 15 [l0, l1, l2, l3, l4] [] h = some (.inl (some (.int ((nI 1)))), h) := by
  refine (p_const rfl).trans ?_
  exact s_iretT rfl rfl
theorem r_X0_look_19 {d : Nat} {l0 l1 l2 l3 l4 : Option Value} {h : AH} : R_X0_look d 19 [l0, l1, l2, l3, l4] [] h = some (.inl (some (.int ((nI 2)))), h) := by
  refine (p_const rfl).trans ?_
  exact s_iretT rfl rfl
theorem r_X0_look_8 {d : Nat} {b0 : Nat} {s1 s2 : Int32} {l0 l1 l2 l3 l4 : Option Value} {h : AH} : R_X0_look d 8 [l0, l1, l2, l3, l4] [.int (s2), .int (s1), .ref b0] h = (hsj h 2 b0 s1 s2.toInt64).bind fun h1 => R_X0_look d 10 [l0, l1, l2, l3, l4] [] h1 := by
  refine (p_i2l rfl).trans ?_
  exact s_last rfl
theorem r_X0_look_10 {d : Nat} {l0 l1 l2 l3 l4 : Option Value} {h : AH} : R_X0_look d 10 [l0, l1, l2, l3, l4] [] h = some (.inl (some (.int ((nI 0)))), h) := by
  refine (p_goto rfl).trans ?_
  refine (p_const rfl).trans ?_
  exact s_iretT rfl rfl
theorem e_X0_look {d : Nat} {a0 a3 : Nat} {x1 x2 : Int32} {h : AH} : exec tTab (d + 1) K_X0_look [.ref a0, .int x1, .int x2, .ref a3] h = R_X0_look d 0 [some (.ref a0), some (.int x1), some (.int x2), some (.ref a3), none] [] h := exec_eq (cd := k_X0_look) (hd := hd_X0_look) (L := 5) rfl rfl rfl
theorem h_X0_look_5_24 {d : Nat} {ls : ALs} {h : AH} : aT (exec tTab d) k_X0_look hd_X0_look 5 ls 24 h = R_X0_look d 15 (ls.set 4 none) [] h := rfl
theorem h_X0_look_5_25 {d : Nat} {ls : ALs} {h : AH} : aT (exec tTab d) k_X0_look hd_X0_look 5 ls 25 h = R_X0_look d 19 (ls.set 4 none) [] h := rfl
/-- FavourTownLaw.hand(LFavourTown;II[J)I -/
abbrev K_X0_hand : Nat := 8
noncomputable def R_X0_hand (d pc : Nat) (ls : ALs) (st : List Value) (h : AH) : Option (AOut × AH) := aR (exec tTab d) k_X0_hand hd_X0_hand (pc, ls, st, h)
theorem r_X0_hand_0 {d : Nat} {a3 a0 : Nat} {x1 x2 : Int32} {l4 : Option Value} {h : AH} : R_X0_hand d 0 [some (.ref a0), some (.int (x1)), some (.int (x2)), some (.ref a3), l4] [] h = ((hci h a0).bind (lkN [(0, 69)])).bind fun y => aK (exec tTab d y [.ref a0, .int (x1), .int (x2)] h) (fun v h1 => R_X0_hand d 8 [some (.ref a0), some (.int (x1)), some (.int (x2)), some (.ref a3), l4] (v.toList ++ [.int ((nI 0)), .ref a3]) h1) (fun E h1 => aT (exec tTab d) k_X0_hand hd_X0_hand 5 [some (.ref a0), some (.int (x1)), some (.int (x2)), some (.ref a3), l4] E h1) := by
  refine (p_aload rfl rfl).trans ?_
  refine (p_const rfl).trans ?_
  refine (p_aload rfl rfl).trans ?_
  refine (p_iload rfl rfl).trans ?_
  refine (p_iload rfl rfl).trans ?_
  exact s_callV (L := [(0, 69)]) (n := 2) (b := a0) (rest := [.int ((nI 0)), .ref a3]) rfl rfl rfl
theorem r_X0_hand_15 {d : Nat} {l0 l1 l2 l3 l4 : Option Value} {h : AH} : R_X0_hand d 15 [l0, l1, l2, l3, l4] [] h = some (.inl (some (.int ((nI 1)))), h) := by
  refine (p_const rfl).trans ?_
  exact s_iretT rfl rfl
theorem r_X0_hand_8 {d : Nat} {b0 : Nat} {s1 s2 : Int32} {l0 l1 l2 l3 l4 : Option Value} {h : AH} : R_X0_hand d 8 [l0, l1, l2, l3, l4] [.int (s2), .int (s1), .ref b0] h = (hsj h 2 b0 s1 s2.toInt64).bind fun h1 => R_X0_hand d 10 [l0, l1, l2, l3, l4] [] h1 := by
  refine (p_i2l rfl).trans ?_
  exact s_last rfl
theorem r_X0_hand_10 {d : Nat} {l0 l1 l2 l3 l4 : Option Value} {h : AH} : R_X0_hand d 10 [l0, l1, l2, l3, l4] [] h = some (.inl (some (.int ((nI 0)))), h) := by
  refine (p_goto rfl).trans ?_
  refine (p_const rfl).trans ?_
  exact s_iretT rfl rfl
theorem e_X0_hand {d : Nat} {a0 a3 : Nat} {x1 x2 : Int32} {h : AH} : exec tTab (d + 1) K_X0_hand [.ref a0, .int x1, .int x2, .ref a3] h = R_X0_hand d 0 [some (.ref a0), some (.int x1), some (.int x2), some (.ref a3), none] [] h := exec_eq (cd := k_X0_hand) (hd := hd_X0_hand) (L := 5) rfl rfl rfl
theorem h_X0_hand_5_24 {d : Nat} {ls : ALs} {h : AH} : aT (exec tTab d) k_X0_hand hd_X0_hand 5 ls 24 h = R_X0_hand d 15 (ls.set 4 none) [] h := rfl
/-- FavourTownLaw.takes(LFavourTown;II[J)I -/
abbrev K_X0_takes : Nat := 9
noncomputable def R_X0_takes (d pc : Nat) (ls : ALs) (st : List Value) (h : AH) : Option (AOut × AH) := aR (exec tTab d) k_X0_takes hd_X0_takes (pc, ls, st, h)
theorem r_X0_takes_0 {d : Nat} {a3 a0 : Nat} {x1 x2 : Int32} {l4 : Option Value} {h : AH} : R_X0_takes d 0 [some (.ref a0), some (.int (x1)), some (.int (x2)), some (.ref a3), l4] [] h = ((hci h a0).bind (lkN [(0, 70)])).bind fun y => aK (exec tTab d y [.ref a0, .int (x1), .int (x2)] h) (fun v h1 => R_X0_takes d 8 [some (.ref a0), some (.int (x1)), some (.int (x2)), some (.ref a3), l4] (v.toList ++ [.int ((nI 0)), .ref a3]) h1) (fun E h1 => aT (exec tTab d) k_X0_takes hd_X0_takes 5 [some (.ref a0), some (.int (x1)), some (.int (x2)), some (.ref a3), l4] E h1) := by
  refine (p_aload rfl rfl).trans ?_
  refine (p_const rfl).trans ?_
  refine (p_aload rfl rfl).trans ?_
  refine (p_iload rfl rfl).trans ?_
  refine (p_iload rfl rfl).trans ?_
  exact s_callV (L := [(0, 70)]) (n := 2) (b := a0) (rest := [.int ((nI 0)), .ref a3]) rfl rfl rfl
theorem r_X0_takes_22 {d : Nat} {l0 l1 l2 l3 l4 : Option Value} {h : AH} : R_X0_takes d 22 [l0, l1, l2, l3, l4] [] h = some (.inl (some (.int ((nI 1)))), h) := by
  refine (p_const rfl).trans ?_
  exact s_iretT rfl rfl
theorem r_X0_takes_8 {d : Nat} {b0 : Nat} {s1 s2 : Int32} {l0 l1 l2 l3 l4 : Option Value} {h : AH} : R_X0_takes d 8 [l0, l1, l2, l3, l4] [.int (s2), .int (s1), .ref b0] h = if s2 = 0 then R_X0_takes d 15 [l0, l1, l2, l3, l4] [.int (s1), .ref b0] h else R_X0_takes d 11 [l0, l1, l2, l3, l4] [.int (s1), .ref b0] h := (s_if (g := (fun x => decide (x = 0))) (t := 15) (nx := 11) rfl).trans bif_dec
theorem r_X0_takes_15 {d : Nat} {b0 : Nat} {s1 : Int32} {l0 l1 l2 l3 l4 : Option Value} {h : AH} : R_X0_takes d 15 [l0, l1, l2, l3, l4] [.int (s1), .ref b0] h = (hsj h 2 b0 s1 0).bind fun h1 => R_X0_takes d 17 [l0, l1, l2, l3, l4] [] h1 := by
  refine (p_const rfl).trans ?_
  exact s_last rfl
theorem r_X0_takes_11 {d : Nat} {b0 : Nat} {s1 : Int32} {l0 l1 l2 l3 l4 : Option Value} {h : AH} : R_X0_takes d 11 [l0, l1, l2, l3, l4] [.int (s1), .ref b0] h = (hsj h 2 b0 s1 1).bind fun h1 => R_X0_takes d 17 [l0, l1, l2, l3, l4] [] h1 := by
  refine (p_const rfl).trans ?_
  refine (p_goto rfl).trans ?_
  exact s_last rfl
theorem r_X0_takes_17 {d : Nat} {l0 l1 l2 l3 l4 : Option Value} {h : AH} : R_X0_takes d 17 [l0, l1, l2, l3, l4] [] h = some (.inl (some (.int ((nI 0)))), h) := by
  refine (p_goto rfl).trans ?_
  refine (p_const rfl).trans ?_
  exact s_iretT rfl rfl
theorem e_X0_takes {d : Nat} {a0 a3 : Nat} {x1 x2 : Int32} {h : AH} : exec tTab (d + 1) K_X0_takes [.ref a0, .int x1, .int x2, .ref a3] h = R_X0_takes d 0 [some (.ref a0), some (.int x1), some (.int x2), some (.ref a3), none] [] h := exec_eq (cd := k_X0_takes) (hd := hd_X0_takes) (L := 5) rfl rfl rfl
theorem h_X0_takes_5_24 {d : Nat} {ls : ALs} {h : AH} : aT (exec tTab d) k_X0_takes hd_X0_takes 5 ls 24 h = R_X0_takes d 22 (ls.set 4 none) [] h := rfl
/-- FavourTownLaw.rich(LFavourTown;I[J)I -/
abbrev K_X0_rich : Nat := 10
noncomputable def R_X0_rich (d pc : Nat) (ls : ALs) (st : List Value) (h : AH) : Option (AOut × AH) := aR (exec tTab d) k_X0_rich hd_X0_rich (pc, ls, st, h)
theorem r_X0_rich_0 {d : Nat} {a2 a0 : Nat} {x1 : Int32} {l3 : Option Value} {h : AH} : R_X0_rich d 0 [some (.ref a0), some (.int (x1)), some (.ref a2), l3] [] h = ((hci h a0).bind (lkN [(0, 71)])).bind fun y => aK (exec tTab d y [.ref a0, .int (x1)] h) (fun v h1 => R_X0_rich d 7 [some (.ref a0), some (.int (x1)), some (.ref a2), l3] (v.toList ++ [.int ((nI 0)), .ref a2]) h1) (fun E h1 => aT (exec tTab d) k_X0_rich hd_X0_rich 4 [some (.ref a0), some (.int (x1)), some (.ref a2), l3] E h1) := by
  refine (p_aload rfl rfl).trans ?_
  refine (p_const rfl).trans ?_
  refine (p_aload rfl rfl).trans ?_
  refine (p_iload rfl rfl).trans ?_
  exact s_callV (L := [(0, 71)]) (n := 1) (b := a0) (rest := [.int ((nI 0)), .ref a2]) rfl rfl rfl
theorem r_X0_rich_13 {d : Nat} {l0 l1 l2 l3 : Option Value} {h : AH} : R_X0_rich d 13 [l0, l1, l2, l3] [] h = some (.inl (some (.int ((nI 1)))), h) := by
  refine (p_const rfl).trans ?_
  exact s_iretT rfl rfl
theorem r_X0_rich_7 {d : Nat} {b0 : Nat} {s1 s2 : Int32} {l0 l1 l2 l3 : Option Value} {h : AH} : R_X0_rich d 7 [l0, l1, l2, l3] [.int (s2), .int (s1), .ref b0] h = (hsj h 2 b0 s1 s2.toInt64).bind fun h1 => R_X0_rich d 9 [l0, l1, l2, l3] [] h1 := by
  refine (p_i2l rfl).trans ?_
  exact s_last rfl
theorem r_X0_rich_9 {d : Nat} {l0 l1 l2 l3 : Option Value} {h : AH} : R_X0_rich d 9 [l0, l1, l2, l3] [] h = some (.inl (some (.int ((nI 0)))), h) := by
  refine (p_goto rfl).trans ?_
  refine (p_const rfl).trans ?_
  exact s_iretT rfl rfl
theorem e_X0_rich {d : Nat} {a0 a2 : Nat} {x1 : Int32} {h : AH} : exec tTab (d + 1) K_X0_rich [.ref a0, .int x1, .ref a2] h = R_X0_rich d 0 [some (.ref a0), some (.int x1), some (.ref a2), none] [] h := exec_eq (cd := k_X0_rich) (hd := hd_X0_rich) (L := 4) rfl rfl rfl
theorem h_X0_rich_4_24 {d : Nat} {ls : ALs} {h : AH} : aT (exec tTab d) k_X0_rich hd_X0_rich 4 ls 24 h = R_X0_rich d 13 (ls.set 3 none) [] h := rfl
/-- FavourTownLaw.debt(LFavourTown;I[J)I -/
abbrev K_X0_debt : Nat := 11
noncomputable def R_X0_debt (d pc : Nat) (ls : ALs) (st : List Value) (h : AH) : Option (AOut × AH) := aR (exec tTab d) k_X0_debt hd_X0_debt (pc, ls, st, h)
theorem r_X0_debt_0 {d : Nat} {a2 a0 : Nat} {x1 : Int32} {l3 : Option Value} {h : AH} : R_X0_debt d 0 [some (.ref a0), some (.int (x1)), some (.ref a2), l3] [] h = ((hci h a0).bind (lkN [(0, 72)])).bind fun y => aK (exec tTab d y [.ref a0, .int (x1)] h) (fun v h1 => R_X0_debt d 7 [some (.ref a0), some (.int (x1)), some (.ref a2), l3] (v.toList ++ [.int ((nI 0)), .ref a2]) h1) (fun E h1 => aT (exec tTab d) k_X0_debt hd_X0_debt 4 [some (.ref a0), some (.int (x1)), some (.ref a2), l3] E h1) := by
  refine (p_aload rfl rfl).trans ?_
  refine (p_const rfl).trans ?_
  refine (p_aload rfl rfl).trans ?_
  refine (p_iload rfl rfl).trans ?_
  exact s_callV (L := [(0, 72)]) (n := 1) (b := a0) (rest := [.int ((nI 0)), .ref a2]) rfl rfl rfl
theorem r_X0_debt_13 {d : Nat} {l0 l1 l2 l3 : Option Value} {h : AH} : R_X0_debt d 13 [l0, l1, l2, l3] [] h = some (.inl (some (.int ((nI 1)))), h) := by
  refine (p_const rfl).trans ?_
  exact s_iretT rfl rfl
theorem r_X0_debt_7 {d : Nat} {b0 : Nat} {s1 s2 : Int32} {l0 l1 l2 l3 : Option Value} {h : AH} : R_X0_debt d 7 [l0, l1, l2, l3] [.int (s2), .int (s1), .ref b0] h = (hsj h 2 b0 s1 s2.toInt64).bind fun h1 => R_X0_debt d 9 [l0, l1, l2, l3] [] h1 := by
  refine (p_i2l rfl).trans ?_
  exact s_last rfl
theorem r_X0_debt_9 {d : Nat} {l0 l1 l2 l3 : Option Value} {h : AH} : R_X0_debt d 9 [l0, l1, l2, l3] [] h = some (.inl (some (.int ((nI 0)))), h) := by
  refine (p_goto rfl).trans ?_
  refine (p_const rfl).trans ?_
  exact s_iretT rfl rfl
theorem e_X0_debt {d : Nat} {a0 a2 : Nat} {x1 : Int32} {h : AH} : exec tTab (d + 1) K_X0_debt [.ref a0, .int x1, .ref a2] h = R_X0_debt d 0 [some (.ref a0), some (.int x1), some (.ref a2), none] [] h := exec_eq (cd := k_X0_debt) (hd := hd_X0_debt) (L := 4) rfl rfl rfl
theorem h_X0_debt_4_24 {d : Nat} {ls : ALs} {h : AH} : aT (exec tTab d) k_X0_debt hd_X0_debt 4 ls 24 h = R_X0_debt d 13 (ls.set 3 none) [] h := rfl
/-- FavourTownLaw.owes(LFavourTown;II[J)I -/
abbrev K_X0_owes : Nat := 12
noncomputable def R_X0_owes (d pc : Nat) (ls : ALs) (st : List Value) (h : AH) : Option (AOut × AH) := aR (exec tTab d) k_X0_owes hd_X0_owes (pc, ls, st, h)
theorem r_X0_owes_0 {d : Nat} {a3 a0 : Nat} {x1 x2 : Int32} {l4 : Option Value} {h : AH} : R_X0_owes d 0 [some (.ref a0), some (.int (x1)), some (.int (x2)), some (.ref a3), l4] [] h = ((hci h a0).bind (lkN [(0, 73)])).bind fun y => aK (exec tTab d y [.ref a0, .int (x1), .int (x2)] h) (fun v h1 => R_X0_owes d 8 [some (.ref a0), some (.int (x1)), some (.int (x2)), some (.ref a3), l4] (v.toList ++ [.int ((nI 0)), .ref a3]) h1) (fun E h1 => aT (exec tTab d) k_X0_owes hd_X0_owes 5 [some (.ref a0), some (.int (x1)), some (.int (x2)), some (.ref a3), l4] E h1) := by
  refine (p_aload rfl rfl).trans ?_
  refine (p_const rfl).trans ?_
  refine (p_aload rfl rfl).trans ?_
  refine (p_iload rfl rfl).trans ?_
  refine (p_iload rfl rfl).trans ?_
  exact s_callV (L := [(0, 73)]) (n := 2) (b := a0) (rest := [.int ((nI 0)), .ref a3]) rfl rfl rfl
theorem r_X0_owes_15 {d : Nat} {l0 l1 l2 l3 l4 : Option Value} {h : AH} : R_X0_owes d 15 [l0, l1, l2, l3, l4] [] h = some (.inl (some (.int ((nI 1)))), h) := by
  refine (p_const rfl).trans ?_
  exact s_iretT rfl rfl
theorem r_X0_owes_8 {d : Nat} {b0 : Nat} {s1 s2 : Int32} {l0 l1 l2 l3 l4 : Option Value} {h : AH} : R_X0_owes d 8 [l0, l1, l2, l3, l4] [.int (s2), .int (s1), .ref b0] h = (hsj h 2 b0 s1 s2.toInt64).bind fun h1 => R_X0_owes d 10 [l0, l1, l2, l3, l4] [] h1 := by
  refine (p_i2l rfl).trans ?_
  exact s_last rfl
theorem r_X0_owes_10 {d : Nat} {l0 l1 l2 l3 l4 : Option Value} {h : AH} : R_X0_owes d 10 [l0, l1, l2, l3, l4] [] h = some (.inl (some (.int ((nI 0)))), h) := by
  refine (p_goto rfl).trans ?_
  refine (p_const rfl).trans ?_
  exact s_iretT rfl rfl
theorem e_X0_owes {d : Nat} {a0 a3 : Nat} {x1 x2 : Int32} {h : AH} : exec tTab (d + 1) K_X0_owes [.ref a0, .int x1, .int x2, .ref a3] h = R_X0_owes d 0 [some (.ref a0), some (.int x1), some (.int x2), some (.ref a3), none] [] h := exec_eq (cd := k_X0_owes) (hd := hd_X0_owes) (L := 5) rfl rfl rfl
theorem h_X0_owes_5_24 {d : Nat} {ls : ALs} {h : AH} : aT (exec tTab d) k_X0_owes hd_X0_owes 5 ls 24 h = R_X0_owes d 15 (ls.set 4 none) [] h := rfl
/-- FavourTownLaw.pays(LFavourTown;III[J)I -/
abbrev K_X0_pays : Nat := 13
noncomputable def R_X0_pays (d pc : Nat) (ls : ALs) (st : List Value) (h : AH) : Option (AOut × AH) := aR (exec tTab d) k_X0_pays hd_X0_pays (pc, ls, st, h)
theorem r_X0_pays_0 {d : Nat} {a4 a0 : Nat} {x1 x2 x3 : Int32} {l5 : Option Value} {h : AH} : R_X0_pays d 0 [some (.ref a0), some (.int (x1)), some (.int (x2)), some (.int (x3)), some (.ref a4), l5] [] h = ((hci h a0).bind (lkN [(0, 74)])).bind fun y => aK (exec tTab d y [.ref a0, .int (x1), .int (x2), .int (x3)] h) (fun v h1 => R_X0_pays d 10 [some (.ref a0), some (.int (x1)), some (.int (x2)), some (.int (x3)), some (.ref a4), l5] (v.toList ++ [.int ((nI 0)), .ref a4]) h1) (fun E h1 => aT (exec tTab d) k_X0_pays hd_X0_pays 7 [some (.ref a0), some (.int (x1)), some (.int (x2)), some (.int (x3)), some (.ref a4), l5] E h1) := by
  refine (p_aload rfl rfl).trans ?_
  refine (p_const rfl).trans ?_
  refine (p_aload rfl rfl).trans ?_
  refine (p_iload rfl rfl).trans ?_
  refine (p_iload rfl rfl).trans ?_
  refine (p_iload rfl rfl).trans ?_
  exact s_callV (L := [(0, 74)]) (n := 3) (b := a0) (rest := [.int ((nI 0)), .ref a4]) rfl rfl rfl
theorem r_X0_pays_17 {d : Nat} {l0 l1 l2 l3 l4 l5 : Option Value} {h : AH} : R_X0_pays d 17 [l0, l1, l2, l3, l4, l5] [] h = some (.inl (some (.int ((nI 1)))), h) := by
  refine (p_const rfl).trans ?_
  exact s_iretT rfl rfl
theorem r_X0_pays_21 {d : Nat} {l0 l1 l2 l3 l4 l5 : Option Value} {h : AH} : R_X0_pays d 21 [l0, l1, l2, l3, l4, l5] [] h = some (.inl (some (.int ((nI 2)))), h) := by
  refine (p_const rfl).trans ?_
  exact s_iretT rfl rfl
theorem r_X0_pays_10 {d : Nat} {b0 : Nat} {s1 s2 : Int32} {l0 l1 l2 l3 l4 l5 : Option Value} {h : AH} : R_X0_pays d 10 [l0, l1, l2, l3, l4, l5] [.int (s2), .int (s1), .ref b0] h = (hsj h 2 b0 s1 s2.toInt64).bind fun h1 => R_X0_pays d 12 [l0, l1, l2, l3, l4, l5] [] h1 := by
  refine (p_i2l rfl).trans ?_
  exact s_last rfl
theorem r_X0_pays_12 {d : Nat} {l0 l1 l2 l3 l4 l5 : Option Value} {h : AH} : R_X0_pays d 12 [l0, l1, l2, l3, l4, l5] [] h = some (.inl (some (.int ((nI 0)))), h) := by
  refine (p_goto rfl).trans ?_
  refine (p_const rfl).trans ?_
  exact s_iretT rfl rfl
theorem e_X0_pays {d : Nat} {a0 a4 : Nat} {x1 x2 x3 : Int32} {h : AH} : exec tTab (d + 1) K_X0_pays [.ref a0, .int x1, .int x2, .int x3, .ref a4] h = R_X0_pays d 0 [some (.ref a0), some (.int x1), some (.int x2), some (.int x3), some (.ref a4), none] [] h := exec_eq (cd := k_X0_pays) (hd := hd_X0_pays) (L := 6) rfl rfl rfl
theorem h_X0_pays_7_24 {d : Nat} {ls : ALs} {h : AH} : aT (exec tTab d) k_X0_pays hd_X0_pays 7 ls 24 h = R_X0_pays d 17 (ls.set 5 none) [] h := rfl
theorem h_X0_pays_7_22 {d : Nat} {ls : ALs} {h : AH} : aT (exec tTab d) k_X0_pays hd_X0_pays 7 ls 22 h = R_X0_pays d 21 (ls.set 5 none) [] h := rfl
/-- FavourTownLaw.can(LFavourTown;I[J)I -/
abbrev K_X0_can : Nat := 14
noncomputable def R_X0_can (d pc : Nat) (ls : ALs) (st : List Value) (h : AH) : Option (AOut × AH) := aR (exec tTab d) k_X0_can hd_X0_can (pc, ls, st, h)
theorem r_X0_can_0 {d : Nat} {a2 a0 : Nat} {x1 : Int32} {l3 : Option Value} {h : AH} : R_X0_can d 0 [some (.ref a0), some (.int (x1)), some (.ref a2), l3] [] h = ((hci h a0).bind (lkN [(0, 75)])).bind fun y => aK (exec tTab d y [.ref a0, .int (x1)] h) (fun v h1 => R_X0_can d 7 [some (.ref a0), some (.int (x1)), some (.ref a2), l3] (v.toList ++ [.int ((nI 0)), .ref a2]) h1) (fun E h1 => aT (exec tTab d) k_X0_can hd_X0_can 4 [some (.ref a0), some (.int (x1)), some (.ref a2), l3] E h1) := by
  refine (p_aload rfl rfl).trans ?_
  refine (p_const rfl).trans ?_
  refine (p_aload rfl rfl).trans ?_
  refine (p_iload rfl rfl).trans ?_
  exact s_callV (L := [(0, 75)]) (n := 1) (b := a0) (rest := [.int ((nI 0)), .ref a2]) rfl rfl rfl
theorem r_X0_can_20 {d : Nat} {l0 l1 l2 l3 : Option Value} {h : AH} : R_X0_can d 20 [l0, l1, l2, l3] [] h = some (.inl (some (.int ((nI 1)))), h) := by
  refine (p_const rfl).trans ?_
  exact s_iretT rfl rfl
theorem r_X0_can_7 {d : Nat} {b0 : Nat} {s1 s2 : Int32} {l0 l1 l2 l3 : Option Value} {h : AH} : R_X0_can d 7 [l0, l1, l2, l3] [.int (s2), .int (s1), .ref b0] h = if s2 = 0 then R_X0_can d 14 [l0, l1, l2, l3] [.int (s1), .ref b0] h else R_X0_can d 10 [l0, l1, l2, l3] [.int (s1), .ref b0] h := (s_if (g := (fun x => decide (x = 0))) (t := 14) (nx := 10) rfl).trans bif_dec
theorem r_X0_can_14 {d : Nat} {b0 : Nat} {s1 : Int32} {l0 l1 l2 l3 : Option Value} {h : AH} : R_X0_can d 14 [l0, l1, l2, l3] [.int (s1), .ref b0] h = (hsj h 2 b0 s1 0).bind fun h1 => R_X0_can d 16 [l0, l1, l2, l3] [] h1 := by
  refine (p_const rfl).trans ?_
  exact s_last rfl
theorem r_X0_can_10 {d : Nat} {b0 : Nat} {s1 : Int32} {l0 l1 l2 l3 : Option Value} {h : AH} : R_X0_can d 10 [l0, l1, l2, l3] [.int (s1), .ref b0] h = (hsj h 2 b0 s1 1).bind fun h1 => R_X0_can d 16 [l0, l1, l2, l3] [] h1 := by
  refine (p_const rfl).trans ?_
  refine (p_goto rfl).trans ?_
  exact s_last rfl
theorem r_X0_can_16 {d : Nat} {l0 l1 l2 l3 : Option Value} {h : AH} : R_X0_can d 16 [l0, l1, l2, l3] [] h = some (.inl (some (.int ((nI 0)))), h) := by
  refine (p_goto rfl).trans ?_
  refine (p_const rfl).trans ?_
  exact s_iretT rfl rfl
theorem e_X0_can {d : Nat} {a0 a2 : Nat} {x1 : Int32} {h : AH} : exec tTab (d + 1) K_X0_can [.ref a0, .int x1, .ref a2] h = R_X0_can d 0 [some (.ref a0), some (.int x1), some (.ref a2), none] [] h := exec_eq (cd := k_X0_can) (hd := hd_X0_can) (L := 4) rfl rfl rfl
theorem h_X0_can_4_24 {d : Nat} {ls : ALs} {h : AH} : aT (exec tTab d) k_X0_can hd_X0_can 4 ls 24 h = R_X0_can d 20 (ls.set 3 none) [] h := rfl
/-- FavourTownLaw.meet(LFavourTown;I[J)I -/
abbrev K_X0_meet : Nat := 15
noncomputable def R_X0_meet (d pc : Nat) (ls : ALs) (st : List Value) (h : AH) : Option (AOut × AH) := aR (exec tTab d) k_X0_meet hd_X0_meet (pc, ls, st, h)
theorem r_X0_meet_0 {d : Nat} {a2 a0 : Nat} {x1 : Int32} {l3 : Option Value} {h : AH} : R_X0_meet d 0 [some (.ref a0), some (.int (x1)), some (.ref a2), l3] [] h = ((hci h a0).bind (lkN [(0, 77)])).bind fun y => aK (exec tTab d y [.ref a0, .int (x1)] h) (fun v h1 => R_X0_meet d 7 [some (.ref a0), some (.int (x1)), some (.ref a2), l3] (v.toList ++ [.int ((nI 0)), .ref a2]) h1) (fun E h1 => aT (exec tTab d) k_X0_meet hd_X0_meet 4 [some (.ref a0), some (.int (x1)), some (.ref a2), l3] E h1) := by
  refine (p_aload rfl rfl).trans ?_
  refine (p_const rfl).trans ?_
  refine (p_aload rfl rfl).trans ?_
  refine (p_iload rfl rfl).trans ?_
  exact s_callV (L := [(0, 77)]) (n := 1) (b := a0) (rest := [.int ((nI 0)), .ref a2]) rfl rfl rfl
theorem r_X0_meet_13 {d : Nat} {l0 l1 l2 l3 : Option Value} {h : AH} : R_X0_meet d 13 [l0, l1, l2, l3] [] h = some (.inl (some (.int ((nI 1)))), h) := by
  refine (p_const rfl).trans ?_
  exact s_iretT rfl rfl
theorem r_X0_meet_7 {d : Nat} {b0 : Nat} {s1 s2 : Int32} {l0 l1 l2 l3 : Option Value} {h : AH} : R_X0_meet d 7 [l0, l1, l2, l3] [.int (s2), .int (s1), .ref b0] h = (hsj h 2 b0 s1 s2.toInt64).bind fun h1 => R_X0_meet d 9 [l0, l1, l2, l3] [] h1 := by
  refine (p_i2l rfl).trans ?_
  exact s_last rfl
theorem r_X0_meet_9 {d : Nat} {l0 l1 l2 l3 : Option Value} {h : AH} : R_X0_meet d 9 [l0, l1, l2, l3] [] h = some (.inl (some (.int ((nI 0)))), h) := by
  refine (p_goto rfl).trans ?_
  refine (p_const rfl).trans ?_
  exact s_iretT rfl rfl
theorem e_X0_meet {d : Nat} {a0 a2 : Nat} {x1 : Int32} {h : AH} : exec tTab (d + 1) K_X0_meet [.ref a0, .int x1, .ref a2] h = R_X0_meet d 0 [some (.ref a0), some (.int x1), some (.ref a2), none] [] h := exec_eq (cd := k_X0_meet) (hd := hd_X0_meet) (L := 4) rfl rfl rfl
theorem h_X0_meet_4_24 {d : Nat} {ls : ALs} {h : AH} : aT (exec tTab d) k_X0_meet hd_X0_meet 4 ls 24 h = R_X0_meet d 13 (ls.set 3 none) [] h := rfl
/-- FavourTownLaw.port(LFavourTown;II[J)I -/
abbrev K_X0_port : Nat := 16
noncomputable def R_X0_port (d pc : Nat) (ls : ALs) (st : List Value) (h : AH) : Option (AOut × AH) := aR (exec tTab d) k_X0_port hd_X0_port (pc, ls, st, h)
theorem r_X0_port_0 {d : Nat} {a3 a0 : Nat} {x1 x2 : Int32} {l4 : Option Value} {h : AH} : R_X0_port d 0 [some (.ref a0), some (.int (x1)), some (.int (x2)), some (.ref a3), l4] [] h = ((hci h a0).bind (lkN [(0, 78)])).bind fun y => aK (exec tTab d y [.ref a0, .int (x1), .int (x2)] h) (fun v h1 => R_X0_port d 8 [some (.ref a0), some (.int (x1)), some (.int (x2)), some (.ref a3), l4] (v.toList ++ [.int ((nI 0)), .ref a3]) h1) (fun E h1 => aT (exec tTab d) k_X0_port hd_X0_port 5 [some (.ref a0), some (.int (x1)), some (.int (x2)), some (.ref a3), l4] E h1) := by
  refine (p_aload rfl rfl).trans ?_
  refine (p_const rfl).trans ?_
  refine (p_aload rfl rfl).trans ?_
  refine (p_iload rfl rfl).trans ?_
  refine (p_iload rfl rfl).trans ?_
  exact s_callV (L := [(0, 78)]) (n := 2) (b := a0) (rest := [.int ((nI 0)), .ref a3]) rfl rfl rfl
theorem r_X0_port_15 {d : Nat} {l0 l1 l2 l3 l4 : Option Value} {h : AH} : R_X0_port d 15 [l0, l1, l2, l3, l4] [] h = some (.inl (some (.int ((nI 1)))), h) := by
  refine (p_const rfl).trans ?_
  exact s_iretT rfl rfl
theorem r_X0_port_19 {d : Nat} {l0 l1 l2 l3 l4 : Option Value} {h : AH} : R_X0_port d 19 [l0, l1, l2, l3, l4] [] h = some (.inl (some (.int ((nI 2)))), h) := by
  refine (p_const rfl).trans ?_
  exact s_iretT rfl rfl
theorem r_X0_port_8 {d : Nat} {b0 : Nat} {s1 s2 : Int32} {l0 l1 l2 l3 l4 : Option Value} {h : AH} : R_X0_port d 8 [l0, l1, l2, l3, l4] [.int (s2), .int (s1), .ref b0] h = (hsj h 2 b0 s1 s2.toInt64).bind fun h1 => R_X0_port d 10 [l0, l1, l2, l3, l4] [] h1 := by
  refine (p_i2l rfl).trans ?_
  exact s_last rfl
theorem r_X0_port_10 {d : Nat} {l0 l1 l2 l3 l4 : Option Value} {h : AH} : R_X0_port d 10 [l0, l1, l2, l3, l4] [] h = some (.inl (some (.int ((nI 0)))), h) := by
  refine (p_goto rfl).trans ?_
  refine (p_const rfl).trans ?_
  exact s_iretT rfl rfl
theorem e_X0_port {d : Nat} {a0 a3 : Nat} {x1 x2 : Int32} {h : AH} : exec tTab (d + 1) K_X0_port [.ref a0, .int x1, .int x2, .ref a3] h = R_X0_port d 0 [some (.ref a0), some (.int x1), some (.int x2), some (.ref a3), none] [] h := exec_eq (cd := k_X0_port) (hd := hd_X0_port) (L := 5) rfl rfl rfl
theorem h_X0_port_5_24 {d : Nat} {ls : ALs} {h : AH} : aT (exec tTab d) k_X0_port hd_X0_port 5 ls 24 h = R_X0_port d 15 (ls.set 4 none) [] h := rfl
theorem h_X0_port_5_22 {d : Nat} {ls : ALs} {h : AH} : aT (exec tTab d) k_X0_port hd_X0_port 5 ls 22 h = R_X0_port d 19 (ls.set 4 none) [] h := rfl
/-- FavourTownLaw.most(LFavourTown;II[J)I -/
abbrev K_X0_most : Nat := 17
noncomputable def R_X0_most (d pc : Nat) (ls : ALs) (st : List Value) (h : AH) : Option (AOut × AH) := aR (exec tTab d) k_X0_most hd_X0_most (pc, ls, st, h)
theorem r_X0_most_0 {d : Nat} {a3 a0 : Nat} {x1 x2 : Int32} {l4 : Option Value} {h : AH} : R_X0_most d 0 [some (.ref a0), some (.int (x1)), some (.int (x2)), some (.ref a3), l4] [] h = ((hci h a0).bind (lkN [(0, 79)])).bind fun y => aK (exec tTab d y [.ref a0, .int (x1), .int (x2)] h) (fun v h1 => R_X0_most d 8 [some (.ref a0), some (.int (x1)), some (.int (x2)), some (.ref a3), l4] (v.toList ++ [.int ((nI 0)), .ref a3]) h1) (fun E h1 => aT (exec tTab d) k_X0_most hd_X0_most 5 [some (.ref a0), some (.int (x1)), some (.int (x2)), some (.ref a3), l4] E h1) := by
  refine (p_aload rfl rfl).trans ?_
  refine (p_const rfl).trans ?_
  refine (p_aload rfl rfl).trans ?_
  refine (p_iload rfl rfl).trans ?_
  refine (p_iload rfl rfl).trans ?_
  exact s_callV (L := [(0, 79)]) (n := 2) (b := a0) (rest := [.int ((nI 0)), .ref a3]) rfl rfl rfl
theorem r_X0_most_15 {d : Nat} {l0 l1 l2 l3 l4 : Option Value} {h : AH} : R_X0_most d 15 [l0, l1, l2, l3, l4] [] h = some (.inl (some (.int ((nI 1)))), h) := by
  refine (p_const rfl).trans ?_
  exact s_iretT rfl rfl
theorem r_X0_most_19 {d : Nat} {l0 l1 l2 l3 l4 : Option Value} {h : AH} : R_X0_most d 19 [l0, l1, l2, l3, l4] [] h = some (.inl (some (.int ((nI 2)))), h) := by
  refine (p_const rfl).trans ?_
  exact s_iretT rfl rfl
theorem r_X0_most_8 {d : Nat} {b0 : Nat} {s1 s2 : Int32} {l0 l1 l2 l3 l4 : Option Value} {h : AH} : R_X0_most d 8 [l0, l1, l2, l3, l4] [.int (s2), .int (s1), .ref b0] h = (hsj h 2 b0 s1 s2.toInt64).bind fun h1 => R_X0_most d 10 [l0, l1, l2, l3, l4] [] h1 := by
  refine (p_i2l rfl).trans ?_
  exact s_last rfl
theorem r_X0_most_10 {d : Nat} {l0 l1 l2 l3 l4 : Option Value} {h : AH} : R_X0_most d 10 [l0, l1, l2, l3, l4] [] h = some (.inl (some (.int ((nI 0)))), h) := by
  refine (p_goto rfl).trans ?_
  refine (p_const rfl).trans ?_
  exact s_iretT rfl rfl
theorem e_X0_most {d : Nat} {a0 a3 : Nat} {x1 x2 : Int32} {h : AH} : exec tTab (d + 1) K_X0_most [.ref a0, .int x1, .int x2, .ref a3] h = R_X0_most d 0 [some (.ref a0), some (.int x1), some (.int x2), some (.ref a3), none] [] h := exec_eq (cd := k_X0_most) (hd := hd_X0_most) (L := 5) rfl rfl rfl
theorem h_X0_most_5_24 {d : Nat} {ls : ALs} {h : AH} : aT (exec tTab d) k_X0_most hd_X0_most 5 ls 24 h = R_X0_most d 15 (ls.set 4 none) [] h := rfl
theorem h_X0_most_5_22 {d : Nat} {ls : ALs} {h : AH} : aT (exec tTab d) k_X0_most hd_X0_most 5 ls 22 h = R_X0_most d 19 (ls.set 4 none) [] h := rfl
/-- FavourTownLaw.cut(LFavourTown;II[J)I -/
abbrev K_X0_cut : Nat := 18
noncomputable def R_X0_cut (d pc : Nat) (ls : ALs) (st : List Value) (h : AH) : Option (AOut × AH) := aR (exec tTab d) k_X0_cut hd_X0_cut (pc, ls, st, h)
theorem r_X0_cut_0 {d : Nat} {a3 a0 : Nat} {x1 x2 : Int32} {l4 : Option Value} {h : AH} : R_X0_cut d 0 [some (.ref a0), some (.int (x1)), some (.int (x2)), some (.ref a3), l4] [] h = ((hci h a0).bind (lkN [(0, 80)])).bind fun y => aK (exec tTab d y [.ref a0, .int (x1), .int (x2)] h) (fun v h1 => R_X0_cut d 8 [some (.ref a0), some (.int (x1)), some (.int (x2)), some (.ref a3), l4] (v.toList ++ [.int ((nI 0)), .ref a3]) h1) (fun E h1 => aT (exec tTab d) k_X0_cut hd_X0_cut 5 [some (.ref a0), some (.int (x1)), some (.int (x2)), some (.ref a3), l4] E h1) := by
  refine (p_aload rfl rfl).trans ?_
  refine (p_const rfl).trans ?_
  refine (p_aload rfl rfl).trans ?_
  refine (p_iload rfl rfl).trans ?_
  refine (p_iload rfl rfl).trans ?_
  exact s_callV (L := [(0, 80)]) (n := 2) (b := a0) (rest := [.int ((nI 0)), .ref a3]) rfl rfl rfl
theorem r_X0_cut_15 {d : Nat} {l0 l1 l2 l3 l4 : Option Value} {h : AH} : R_X0_cut d 15 [l0, l1, l2, l3, l4] [] h = some (.inl (some (.int ((nI 1)))), h) := by
  refine (p_const rfl).trans ?_
  exact s_iretT rfl rfl
theorem r_X0_cut_19 {d : Nat} {l0 l1 l2 l3 l4 : Option Value} {h : AH} : R_X0_cut d 19 [l0, l1, l2, l3, l4] [] h = some (.inl (some (.int ((nI 2)))), h) := by
  refine (p_const rfl).trans ?_
  exact s_iretT rfl rfl
theorem r_X0_cut_8 {d : Nat} {b0 : Nat} {s1 s2 : Int32} {l0 l1 l2 l3 l4 : Option Value} {h : AH} : R_X0_cut d 8 [l0, l1, l2, l3, l4] [.int (s2), .int (s1), .ref b0] h = (hsj h 2 b0 s1 s2.toInt64).bind fun h1 => R_X0_cut d 10 [l0, l1, l2, l3, l4] [] h1 := by
  refine (p_i2l rfl).trans ?_
  exact s_last rfl
theorem r_X0_cut_10 {d : Nat} {l0 l1 l2 l3 l4 : Option Value} {h : AH} : R_X0_cut d 10 [l0, l1, l2, l3, l4] [] h = some (.inl (some (.int ((nI 0)))), h) := by
  refine (p_goto rfl).trans ?_
  refine (p_const rfl).trans ?_
  exact s_iretT rfl rfl
theorem e_X0_cut {d : Nat} {a0 a3 : Nat} {x1 x2 : Int32} {h : AH} : exec tTab (d + 1) K_X0_cut [.ref a0, .int x1, .int x2, .ref a3] h = R_X0_cut d 0 [some (.ref a0), some (.int x1), some (.int x2), some (.ref a3), none] [] h := exec_eq (cd := k_X0_cut) (hd := hd_X0_cut) (L := 5) rfl rfl rfl
theorem h_X0_cut_5_24 {d : Nat} {ls : ALs} {h : AH} : aT (exec tTab d) k_X0_cut hd_X0_cut 5 ls 24 h = R_X0_cut d 15 (ls.set 4 none) [] h := rfl
theorem h_X0_cut_5_22 {d : Nat} {ls : ALs} {h : AH} : aT (exec tTab d) k_X0_cut hd_X0_cut 5 ls 22 h = R_X0_cut d 19 (ls.set 4 none) [] h := rfl
/-- FavourTownLaw.chain(LFavourTown;IIII[J)I -/
abbrev K_X0_chain : Nat := 19
noncomputable def R_X0_chain (d pc : Nat) (ls : ALs) (st : List Value) (h : AH) : Option (AOut × AH) := aR (exec tTab d) k_X0_chain hd_X0_chain (pc, ls, st, h)
theorem r_X0_chain_0 {d : Nat} {a5 a0 : Nat} {x1 x2 x3 x4 : Int32} {l6 : Option Value} {h : AH} : R_X0_chain d 0 [some (.ref a0), some (.int (x1)), some (.int (x2)), some (.int (x3)), some (.int (x4)), some (.ref a5), l6] [] h = ((hci h a0).bind (lkN [(0, 81)])).bind fun y => aK (exec tTab d y [.ref a0, .int (x1), .int (x2), .int (x3), .int (x4)] h) (fun v h1 => R_X0_chain d 12 [some (.ref a0), some (.int (x1)), some (.int (x2)), some (.int (x3)), some (.int (x4)), some (.ref a5), l6] (v.toList ++ [.int ((nI 0)), .ref a5]) h1) (fun E h1 => aT (exec tTab d) k_X0_chain hd_X0_chain 9 [some (.ref a0), some (.int (x1)), some (.int (x2)), some (.int (x3)), some (.int (x4)), some (.ref a5), l6] E h1) := by
  refine (p_aload rfl rfl).trans ?_
  refine (p_const rfl).trans ?_
  refine (p_aload rfl rfl).trans ?_
  refine (p_iload rfl rfl).trans ?_
  refine (p_iload rfl rfl).trans ?_
  refine (p_iload rfl rfl).trans ?_
  refine (p_iload rfl rfl).trans ?_
  exact s_callV (L := [(0, 81)]) (n := 4) (b := a0) (rest := [.int ((nI 0)), .ref a5]) rfl rfl rfl
theorem r_X0_chain_19 {d : Nat} {l0 l1 l2 l3 l4 l5 l6 : Option Value} {h : AH} : R_X0_chain d 19 [l0, l1, l2, l3, l4, l5, l6] [] h = some (.inl (some (.int ((nI 1)))), h) := by
  refine (p_const rfl).trans ?_
  exact s_iretT rfl rfl
theorem r_X0_chain_23 {d : Nat} {l0 l1 l2 l3 l4 l5 l6 : Option Value} {h : AH} : R_X0_chain d 23 [l0, l1, l2, l3, l4, l5, l6] [] h = some (.inl (some (.int ((nI 2)))), h) := by
  refine (p_const rfl).trans ?_
  exact s_iretT rfl rfl
theorem r_X0_chain_12 {d : Nat} {b0 : Nat} {s1 s2 : Int32} {l0 l1 l2 l3 l4 l5 l6 : Option Value} {h : AH} : R_X0_chain d 12 [l0, l1, l2, l3, l4, l5, l6] [.int (s2), .int (s1), .ref b0] h = (hsj h 2 b0 s1 s2.toInt64).bind fun h1 => R_X0_chain d 14 [l0, l1, l2, l3, l4, l5, l6] [] h1 := by
  refine (p_i2l rfl).trans ?_
  exact s_last rfl
theorem r_X0_chain_14 {d : Nat} {l0 l1 l2 l3 l4 l5 l6 : Option Value} {h : AH} : R_X0_chain d 14 [l0, l1, l2, l3, l4, l5, l6] [] h = some (.inl (some (.int ((nI 0)))), h) := by
  refine (p_goto rfl).trans ?_
  refine (p_const rfl).trans ?_
  exact s_iretT rfl rfl
theorem e_X0_chain {d : Nat} {a0 a5 : Nat} {x1 x2 x3 x4 : Int32} {h : AH} : exec tTab (d + 1) K_X0_chain [.ref a0, .int x1, .int x2, .int x3, .int x4, .ref a5] h = R_X0_chain d 0 [some (.ref a0), some (.int x1), some (.int x2), some (.int x3), some (.int x4), some (.ref a5), none] [] h := exec_eq (cd := k_X0_chain) (hd := hd_X0_chain) (L := 7) rfl rfl rfl
theorem h_X0_chain_9_24 {d : Nat} {ls : ALs} {h : AH} : aT (exec tTab d) k_X0_chain hd_X0_chain 9 ls 24 h = R_X0_chain d 19 (ls.set 6 none) [] h := rfl
theorem h_X0_chain_9_22 {d : Nat} {ls : ALs} {h : AH} : aT (exec tTab d) k_X0_chain hd_X0_chain 9 ls 22 h = R_X0_chain d 23 (ls.set 6 none) [] h := rfl
/-- FavourTownLaw.ring(LFavourTown;[J)I -/
abbrev K_X0_ring : Nat := 20
noncomputable def R_X0_ring (d pc : Nat) (ls : ALs) (st : List Value) (h : AH) : Option (AOut × AH) := aR (exec tTab d) k_X0_ring hd_X0_ring (pc, ls, st, h)
theorem r_X0_ring_0 {d : Nat} {a1 a0 : Nat} {l2 : Option Value} {h : AH} : R_X0_ring d 0 [some (.ref a0), some (.ref a1), l2] [] h = ((hci h a0).bind (lkN [(0, 83)])).bind fun y => aK (exec tTab d y [.ref a0] h) (fun v h1 => R_X0_ring d 6 [some (.ref a0), some (.ref a1), l2] (v.toList ++ [.int ((nI 0)), .ref a1]) h1) (fun E h1 => aT (exec tTab d) k_X0_ring hd_X0_ring 3 [some (.ref a0), some (.ref a1), l2] E h1) := by
  refine (p_aload rfl rfl).trans ?_
  refine (p_const rfl).trans ?_
  refine (p_aload rfl rfl).trans ?_
  exact s_callV (L := [(0, 83)]) (n := 0) (b := a0) (rest := [.int ((nI 0)), .ref a1]) rfl rfl rfl
theorem r_X0_ring_12 {d : Nat} {l0 l1 l2 : Option Value} {h : AH} : R_X0_ring d 12 [l0, l1, l2] [] h = some (.inl (some (.int ((nI 1)))), h) := by
  refine (p_const rfl).trans ?_
  exact s_iretT rfl rfl
theorem r_X0_ring_15 {d : Nat} {l0 l1 l2 : Option Value} {h : AH} : R_X0_ring d 15 [l0, l1, l2] [] h = some (.inl (some (.int ((nI 2)))), h) := by
  refine (p_const rfl).trans ?_
  exact s_iretT rfl rfl
theorem r_X0_ring_6 {d : Nat} {b0 : Nat} {s1 s2 : Int32} {l0 l1 l2 : Option Value} {h : AH} : R_X0_ring d 6 [l0, l1, l2] [.int (s2), .int (s1), .ref b0] h = (hsj h 2 b0 s1 s2.toInt64).bind fun h1 => R_X0_ring d 8 [l0, l1, l2] [] h1 := by
  refine (p_i2l rfl).trans ?_
  exact s_last rfl
theorem r_X0_ring_8 {d : Nat} {l0 l1 l2 : Option Value} {h : AH} : R_X0_ring d 8 [l0, l1, l2] [] h = some (.inl (some (.int ((nI 0)))), h) := by
  refine (p_goto rfl).trans ?_
  refine (p_const rfl).trans ?_
  exact s_iretT rfl rfl
theorem e_X0_ring {d : Nat} {a0 a1 : Nat} {h : AH} : exec tTab (d + 1) K_X0_ring [.ref a0, .ref a1] h = R_X0_ring d 0 [some (.ref a0), some (.ref a1), none] [] h := exec_eq (cd := k_X0_ring) (hd := hd_X0_ring) (L := 3) rfl rfl rfl
theorem h_X0_ring_3_22 {d : Nat} {ls : ALs} {h : AH} : aT (exec tTab d) k_X0_ring hd_X0_ring 3 ls 22 h = R_X0_ring d 12 (ls.set 2 none) [] h := rfl
theorem h_X0_ring_3_23 {d : Nat} {ls : ALs} {h : AH} : aT (exec tTab d) k_X0_ring hd_X0_ring 3 ls 23 h = R_X0_ring d 15 (ls.set 2 none) [] h := rfl
/-- FavourTownLaw.clear(LFavourTown;I[J)I -/
abbrev K_X0_clear : Nat := 21
noncomputable def R_X0_clear (d pc : Nat) (ls : ALs) (st : List Value) (h : AH) : Option (AOut × AH) := aR (exec tTab d) k_X0_clear hd_X0_clear (pc, ls, st, h)
theorem r_X0_clear_0 {d : Nat} {a2 a0 : Nat} {x1 : Int32} {l3 : Option Value} {h : AH} : R_X0_clear d 0 [some (.ref a0), some (.int (x1)), some (.ref a2), l3] [] h = ((hci h a0).bind (lkN [(0, 84)])).bind fun y => aK (exec tTab d y [.ref a0, .int (x1)] h) (fun v h1 => R_X0_clear d 7 [some (.ref a0), some (.int (x1)), some (.ref a2), l3] (v.toList ++ [.int ((nI 0)), .ref a2]) h1) (fun E h1 => aT (exec tTab d) k_X0_clear hd_X0_clear 4 [some (.ref a0), some (.int (x1)), some (.ref a2), l3] E h1) := by
  refine (p_aload rfl rfl).trans ?_
  refine (p_const rfl).trans ?_
  refine (p_aload rfl rfl).trans ?_
  refine (p_iload rfl rfl).trans ?_
  exact s_callV (L := [(0, 84)]) (n := 1) (b := a0) (rest := [.int ((nI 0)), .ref a2]) rfl rfl rfl
theorem r_X0_clear_13 {d : Nat} {l0 l1 l2 l3 : Option Value} {h : AH} : R_X0_clear d 13 [l0, l1, l2, l3] [] h = some (.inl (some (.int ((nI 1)))), h) := by
  refine (p_const rfl).trans ?_
  exact s_iretT rfl rfl
theorem r_X0_clear_7 {d : Nat} {b0 : Nat} {s1 s2 : Int32} {l0 l1 l2 l3 : Option Value} {h : AH} : R_X0_clear d 7 [l0, l1, l2, l3] [.int (s2), .int (s1), .ref b0] h = (hsj h 2 b0 s1 s2.toInt64).bind fun h1 => R_X0_clear d 9 [l0, l1, l2, l3] [] h1 := by
  refine (p_i2l rfl).trans ?_
  exact s_last rfl
theorem r_X0_clear_9 {d : Nat} {l0 l1 l2 l3 : Option Value} {h : AH} : R_X0_clear d 9 [l0, l1, l2, l3] [] h = some (.inl (some (.int ((nI 0)))), h) := by
  refine (p_goto rfl).trans ?_
  refine (p_const rfl).trans ?_
  exact s_iretT rfl rfl
theorem e_X0_clear {d : Nat} {a0 a2 : Nat} {x1 : Int32} {h : AH} : exec tTab (d + 1) K_X0_clear [.ref a0, .int x1, .ref a2] h = R_X0_clear d 0 [some (.ref a0), some (.int x1), some (.ref a2), none] [] h := exec_eq (cd := k_X0_clear) (hd := hd_X0_clear) (L := 4) rfl rfl rfl
theorem h_X0_clear_4_22 {d : Nat} {ls : ALs} {h : AH} : aT (exec tTab d) k_X0_clear hd_X0_clear 4 ls 22 h = R_X0_clear d 13 (ls.set 3 none) [] h := rfl
/-- FavourTownLaw.loss(LFavourTown;II[J)I -/
abbrev K_X0_loss : Nat := 22
noncomputable def R_X0_loss (d pc : Nat) (ls : ALs) (st : List Value) (h : AH) : Option (AOut × AH) := aR (exec tTab d) k_X0_loss hd_X0_loss (pc, ls, st, h)
theorem r_X0_loss_0 {d : Nat} {a3 a0 : Nat} {x1 x2 : Int32} {l4 : Option Value} {h : AH} : R_X0_loss d 0 [some (.ref a0), some (.int (x1)), some (.int (x2)), some (.ref a3), l4] [] h = ((hci h a0).bind (lkN [(0, 85)])).bind fun y => aK (exec tTab d y [.ref a0, .int (x1), .int (x2)] h) (fun v h1 => R_X0_loss d 8 [some (.ref a0), some (.int (x1)), some (.int (x2)), some (.ref a3), l4] (v.toList ++ [.int ((nI 0)), .ref a3]) h1) (fun E h1 => aT (exec tTab d) k_X0_loss hd_X0_loss 5 [some (.ref a0), some (.int (x1)), some (.int (x2)), some (.ref a3), l4] E h1) := by
  refine (p_aload rfl rfl).trans ?_
  refine (p_const rfl).trans ?_
  refine (p_aload rfl rfl).trans ?_
  refine (p_iload rfl rfl).trans ?_
  refine (p_iload rfl rfl).trans ?_
  exact s_callV (L := [(0, 85)]) (n := 2) (b := a0) (rest := [.int ((nI 0)), .ref a3]) rfl rfl rfl
theorem r_X0_loss_15 {d : Nat} {l0 l1 l2 l3 l4 : Option Value} {h : AH} : R_X0_loss d 15 [l0, l1, l2, l3, l4] [] h = some (.inl (some (.int ((nI 1)))), h) := by
  refine (p_const rfl).trans ?_
  exact s_iretT rfl rfl
theorem r_X0_loss_8 {d : Nat} {b0 : Nat} {s1 s2 : Int32} {l0 l1 l2 l3 l4 : Option Value} {h : AH} : R_X0_loss d 8 [l0, l1, l2, l3, l4] [.int (s2), .int (s1), .ref b0] h = (hsj h 2 b0 s1 s2.toInt64).bind fun h1 => R_X0_loss d 10 [l0, l1, l2, l3, l4] [] h1 := by
  refine (p_i2l rfl).trans ?_
  exact s_last rfl
theorem r_X0_loss_10 {d : Nat} {l0 l1 l2 l3 l4 : Option Value} {h : AH} : R_X0_loss d 10 [l0, l1, l2, l3, l4] [] h = some (.inl (some (.int ((nI 0)))), h) := by
  refine (p_goto rfl).trans ?_
  refine (p_const rfl).trans ?_
  exact s_iretT rfl rfl
theorem e_X0_loss {d : Nat} {a0 a3 : Nat} {x1 x2 : Int32} {h : AH} : exec tTab (d + 1) K_X0_loss [.ref a0, .int x1, .int x2, .ref a3] h = R_X0_loss d 0 [some (.ref a0), some (.int x1), some (.int x2), some (.ref a3), none] [] h := exec_eq (cd := k_X0_loss) (hd := hd_X0_loss) (L := 5) rfl rfl rfl
theorem h_X0_loss_5_24 {d : Nat} {ls : ALs} {h : AH} : aT (exec tTab d) k_X0_loss hd_X0_loss 5 ls 24 h = R_X0_loss d 15 (ls.set 4 none) [] h := rfl
/-- FavourTownLaw.ruined(LFavourTown;I[J)I -/
abbrev K_X0_ruined : Nat := 23
noncomputable def R_X0_ruined (d pc : Nat) (ls : ALs) (st : List Value) (h : AH) : Option (AOut × AH) := aR (exec tTab d) k_X0_ruined hd_X0_ruined (pc, ls, st, h)
theorem r_X0_ruined_0 {d : Nat} {a2 a0 : Nat} {x1 : Int32} {l3 : Option Value} {h : AH} : R_X0_ruined d 0 [some (.ref a0), some (.int (x1)), some (.ref a2), l3] [] h = ((hci h a0).bind (lkN [(0, 86)])).bind fun y => aK (exec tTab d y [.ref a0, .int (x1)] h) (fun v h1 => R_X0_ruined d 7 [some (.ref a0), some (.int (x1)), some (.ref a2), l3] (v.toList ++ [.int ((nI 0)), .ref a2]) h1) (fun E h1 => aT (exec tTab d) k_X0_ruined hd_X0_ruined 4 [some (.ref a0), some (.int (x1)), some (.ref a2), l3] E h1) := by
  refine (p_aload rfl rfl).trans ?_
  refine (p_const rfl).trans ?_
  refine (p_aload rfl rfl).trans ?_
  refine (p_iload rfl rfl).trans ?_
  exact s_callV (L := [(0, 86)]) (n := 1) (b := a0) (rest := [.int ((nI 0)), .ref a2]) rfl rfl rfl
theorem r_X0_ruined_13 {d : Nat} {l0 l1 l2 l3 : Option Value} {h : AH} : R_X0_ruined d 13 [l0, l1, l2, l3] [] h = some (.inl (some (.int ((nI 1)))), h) := by
  refine (p_const rfl).trans ?_
  exact s_iretT rfl rfl
theorem r_X0_ruined_7 {d : Nat} {b0 : Nat} {s1 s2 : Int32} {l0 l1 l2 l3 : Option Value} {h : AH} : R_X0_ruined d 7 [l0, l1, l2, l3] [.int (s2), .int (s1), .ref b0] h = (hsj h 2 b0 s1 s2.toInt64).bind fun h1 => R_X0_ruined d 9 [l0, l1, l2, l3] [] h1 := by
  refine (p_i2l rfl).trans ?_
  exact s_last rfl
theorem r_X0_ruined_9 {d : Nat} {l0 l1 l2 l3 : Option Value} {h : AH} : R_X0_ruined d 9 [l0, l1, l2, l3] [] h = some (.inl (some (.int ((nI 0)))), h) := by
  refine (p_goto rfl).trans ?_
  refine (p_const rfl).trans ?_
  exact s_iretT rfl rfl
theorem e_X0_ruined {d : Nat} {a0 a2 : Nat} {x1 : Int32} {h : AH} : exec tTab (d + 1) K_X0_ruined [.ref a0, .int x1, .ref a2] h = R_X0_ruined d 0 [some (.ref a0), some (.int x1), some (.ref a2), none] [] h := exec_eq (cd := k_X0_ruined) (hd := hd_X0_ruined) (L := 4) rfl rfl rfl
theorem h_X0_ruined_4_24 {d : Nat} {ls : ALs} {h : AH} : aT (exec tTab d) k_X0_ruined hd_X0_ruined 4 ls 24 h = R_X0_ruined d 13 (ls.set 3 none) [] h := rfl
/-- FavourTownLaw.fits(LFavourTown;I[J)I -/
abbrev K_X0_fits : Nat := 24
noncomputable def R_X0_fits (d pc : Nat) (ls : ALs) (st : List Value) (h : AH) : Option (AOut × AH) := aR (exec tTab d) k_X0_fits hd_X0_fits (pc, ls, st, h)
theorem r_X0_fits_0 {d : Nat} {a2 a0 : Nat} {x1 : Int32} {l3 : Option Value} {h : AH} : R_X0_fits d 0 [some (.ref a0), some (.int (x1)), some (.ref a2), l3] [] h = ((hci h a0).bind (lkN [(0, 87)])).bind fun y => aK (exec tTab d y [.ref a0, .int (x1)] h) (fun v h1 => R_X0_fits d 7 [some (.ref a0), some (.int (x1)), some (.ref a2), l3] (v.toList ++ [.int ((nI 0)), .ref a2]) h1) (fun E h1 => aT (exec tTab d) k_X0_fits hd_X0_fits 4 [some (.ref a0), some (.int (x1)), some (.ref a2), l3] E h1) := by
  refine (p_aload rfl rfl).trans ?_
  refine (p_const rfl).trans ?_
  refine (p_aload rfl rfl).trans ?_
  refine (p_iload rfl rfl).trans ?_
  exact s_callV (L := [(0, 87)]) (n := 1) (b := a0) (rest := [.int ((nI 0)), .ref a2]) rfl rfl rfl
theorem r_X0_fits_13 {d : Nat} {l0 l1 l2 l3 : Option Value} {h : AH} : R_X0_fits d 13 [l0, l1, l2, l3] [] h = some (.inl (some (.int ((nI 1)))), h) := by
  refine (p_const rfl).trans ?_
  exact s_iretT rfl rfl
theorem r_X0_fits_7 {d : Nat} {b0 : Nat} {s1 s2 : Int32} {l0 l1 l2 l3 : Option Value} {h : AH} : R_X0_fits d 7 [l0, l1, l2, l3] [.int (s2), .int (s1), .ref b0] h = (hsj h 2 b0 s1 s2.toInt64).bind fun h1 => R_X0_fits d 9 [l0, l1, l2, l3] [] h1 := by
  refine (p_i2l rfl).trans ?_
  exact s_last rfl
theorem r_X0_fits_9 {d : Nat} {l0 l1 l2 l3 : Option Value} {h : AH} : R_X0_fits d 9 [l0, l1, l2, l3] [] h = some (.inl (some (.int ((nI 0)))), h) := by
  refine (p_goto rfl).trans ?_
  refine (p_const rfl).trans ?_
  exact s_iretT rfl rfl
theorem e_X0_fits {d : Nat} {a0 a2 : Nat} {x1 : Int32} {h : AH} : exec tTab (d + 1) K_X0_fits [.ref a0, .int x1, .ref a2] h = R_X0_fits d 0 [some (.ref a0), some (.int x1), some (.ref a2), none] [] h := exec_eq (cd := k_X0_fits) (hd := hd_X0_fits) (L := 4) rfl rfl rfl
theorem h_X0_fits_4_24 {d : Nat} {ls : ALs} {h : AH} : aT (exec tTab d) k_X0_fits hd_X0_fits 4 ls 24 h = R_X0_fits d 13 (ls.set 3 none) [] h := rfl
/-- FavourTownLaw.play(LFavourTown;III[J)I -/
abbrev K_X0_play : Nat := 25
noncomputable def R_X0_play (d pc : Nat) (ls : ALs) (st : List Value) (h : AH) : Option (AOut × AH) := aR (exec tTab d) k_X0_play hd_X0_play (pc, ls, st, h)
theorem r_X0_play_0 {d : Nat} {a4 a0 : Nat} {x1 x2 x3 : Int32} {l5 : Option Value} {h : AH} : R_X0_play d 0 [some (.ref a0), some (.int (x1)), some (.int (x2)), some (.int (x3)), some (.ref a4), l5] [] h = ((hci h a0).bind (lkN [(0, 88)])).bind fun y => aK (exec tTab d y [.ref a0, .int (x1), .int (x2), .int (x3)] h) (fun v h1 => R_X0_play d 10 [some (.ref a0), some (.int (x1)), some (.int (x2)), some (.int (x3)), some (.ref a4), l5] (v.toList ++ [.int ((nI 0)), .ref a4]) h1) (fun E h1 => aT (exec tTab d) k_X0_play hd_X0_play 7 [some (.ref a0), some (.int (x1)), some (.int (x2)), some (.int (x3)), some (.ref a4), l5] E h1) := by
  refine (p_aload rfl rfl).trans ?_
  refine (p_const rfl).trans ?_
  refine (p_aload rfl rfl).trans ?_
  refine (p_iload rfl rfl).trans ?_
  refine (p_iload rfl rfl).trans ?_
  refine (p_iload rfl rfl).trans ?_
  exact s_callV (L := [(0, 88)]) (n := 3) (b := a0) (rest := [.int ((nI 0)), .ref a4]) rfl rfl rfl
theorem r_X0_play_17 {d : Nat} {l0 l1 l2 l3 l4 l5 : Option Value} {h : AH} : R_X0_play d 17 [l0, l1, l2, l3, l4, l5] [] h = some (.inl (some (.int ((nI 1)))), h) := by
  refine (p_const rfl).trans ?_
  exact s_iretT rfl rfl
theorem r_X0_play_21 {d : Nat} {l0 l1 l2 l3 l4 l5 : Option Value} {h : AH} : R_X0_play d 21 [l0, l1, l2, l3, l4, l5] [] h = some (.inl (some (.int ((nI 2)))), h) := by
  refine (p_const rfl).trans ?_
  exact s_iretT rfl rfl
theorem r_X0_play_10 {d : Nat} {b0 : Nat} {s1 s2 : Int32} {l0 l1 l2 l3 l4 l5 : Option Value} {h : AH} : R_X0_play d 10 [l0, l1, l2, l3, l4, l5] [.int (s2), .int (s1), .ref b0] h = (hsj h 2 b0 s1 s2.toInt64).bind fun h1 => R_X0_play d 12 [l0, l1, l2, l3, l4, l5] [] h1 := by
  refine (p_i2l rfl).trans ?_
  exact s_last rfl
theorem r_X0_play_12 {d : Nat} {l0 l1 l2 l3 l4 l5 : Option Value} {h : AH} : R_X0_play d 12 [l0, l1, l2, l3, l4, l5] [] h = some (.inl (some (.int ((nI 0)))), h) := by
  refine (p_goto rfl).trans ?_
  refine (p_const rfl).trans ?_
  exact s_iretT rfl rfl
theorem e_X0_play {d : Nat} {a0 a4 : Nat} {x1 x2 x3 : Int32} {h : AH} : exec tTab (d + 1) K_X0_play [.ref a0, .int x1, .int x2, .int x3, .ref a4] h = R_X0_play d 0 [some (.ref a0), some (.int x1), some (.int x2), some (.int x3), some (.ref a4), none] [] h := exec_eq (cd := k_X0_play) (hd := hd_X0_play) (L := 6) rfl rfl rfl
theorem h_X0_play_7_22 {d : Nat} {ls : ALs} {h : AH} : aT (exec tTab d) k_X0_play hd_X0_play 7 ls 22 h = R_X0_play d 17 (ls.set 5 none) [] h := rfl
theorem h_X0_play_7_25 {d : Nat} {ls : ALs} {h : AH} : aT (exec tTab d) k_X0_play hd_X0_play 7 ls 25 h = R_X0_play d 21 (ls.set 5 none) [] h := rfl
