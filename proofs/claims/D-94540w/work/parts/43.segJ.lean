set_option maxRecDepth 100000
/-- java/util/AbstractCollection.<init>()V -/
abbrev K_J0_init : Nat := 110
noncomputable def R_J0_init (d pc : Nat) (ls : ALs) (st : List Value) (h : AH) : Option (AOut × AH) := aR (exec tTab d) k_J0_init (fun _ _ => some none) (pc, ls, st, h)
theorem r_J0_init_0 {d : Nat} {a0 : Nat} {h : AH} : R_J0_init d 0 [some (.ref a0)] [] h = some (.inl none, h) := by
  refine (p_aload rfl rfl).trans ?_
  refine (s_objI rfl rfl).trans ?_
  exact s_vret rfl
theorem e_J0_init {d : Nat} {a0 : Nat} {h : AH} : exec tTab (d + 1) K_J0_init [.ref a0] h = R_J0_init d 0 [some (.ref a0)] [] h := exec_eq (cd := k_J0_init) (hd := (fun _ _ => some none)) (L := 1) rfl rfl rfl
/-- java/util/AbstractList.<init>()V -/
abbrev K_J1_init : Nat := 111
noncomputable def R_J1_init (d pc : Nat) (ls : ALs) (st : List Value) (h : AH) : Option (AOut × AH) := aR (exec tTab d) k_J1_init (fun _ _ => some none) (pc, ls, st, h)
theorem r_J1_init_0 {d : Nat} {a0 : Nat} {h : AH} : R_J1_init d 0 [some (.ref a0)] [] h = aK (exec tTab d 110 [.ref a0] h) (fun v h1 => R_J1_init d 4 [some (.ref a0)] (v.toList ++ []) h1) (fun E h1 => some (.inr E, h1)) := by
  refine (p_aload rfl rfl).trans ?_
  exact s_callI (y := 110) (n := 0) (b := a0) (rest := []) rfl rfl rfl
theorem r_J1_init_4 {d : Nat} {a0 : Nat} {h : AH} : R_J1_init d 4 [some (.ref a0)] [] h = (hpf h [19] a0 0 (.int ((nI 0)))).bind fun h1 => R_J1_init d 9 [some (.ref a0)] [] h1 := by
  refine (p_aload rfl rfl).trans ?_
  refine (p_const rfl).trans ?_
  exact s_putT rfl rfl
theorem r_J1_init_9 {d : Nat} {l0 : Option Value} {h : AH} : R_J1_init d 9 [l0] [] h = some (.inl none, h) := s_vret rfl
theorem e_J1_init {d : Nat} {a0 : Nat} {h : AH} : exec tTab (d + 1) K_J1_init [.ref a0] h = R_J1_init d 0 [some (.ref a0)] [] h := exec_eq (cd := k_J1_init) (hd := (fun _ _ => some none)) (L := 1) rfl rfl rfl
/-- java/util/ArrayList.<init>()V -/
abbrev K_J2_init : Nat := 112
noncomputable def R_J2_init (d pc : Nat) (ls : ALs) (st : List Value) (h : AH) : Option (AOut × AH) := aR (exec tTab d) k_J2_init (fun _ _ => some none) (pc, ls, st, h)
theorem r_J2_init_0 {d : Nat} {a0 : Nat} {h : AH} : R_J2_init d 0 [some (.ref a0)] [] h = aK (exec tTab d 111 [.ref a0] h) (fun v h1 => R_J2_init d 4 [some (.ref a0)] (v.toList ++ []) h1) (fun E h1 => some (.inr E, h1)) := by
  refine (p_aload rfl rfl).trans ?_
  exact s_callI (y := 111) (n := 0) (b := a0) (rest := []) rfl rfl rfl
theorem r_J2_init_4 {d : Nat} {a0 : Nat} {h : AH} : R_J2_init d 4 [some (.ref a0)] [] h = R_J2_init d 8 [some (.ref a0)] [h.2.2.2 5, .ref a0] h := by
  refine (p_aload rfl rfl).trans ?_
  exact p_stat rfl
theorem r_J2_init_8 {d : Nat} {b0 b1 : Nat} {l0 : Option Value} {h : AH} : R_J2_init d 8 [l0] [.ref b1, .ref b0] h = (hpf h [19] b0 1 (.ref b1)).bind fun h1 => R_J2_init d 11 [l0] [] h1 := s_putT rfl rfl
theorem r_J2_init_8N {d : Nat} {b0 : Nat} {l0 : Option Value} {h : AH} : R_J2_init d 8 [l0] [.null, .ref b0] h = (hpf h [19] b0 1 (.null)).bind fun h1 => R_J2_init d 11 [l0] [] h1 := s_putT rfl rfl
theorem r_J2_init_11 {d : Nat} {l0 : Option Value} {h : AH} : R_J2_init d 11 [l0] [] h = some (.inl none, h) := s_vret rfl
theorem e_J2_init {d : Nat} {a0 : Nat} {h : AH} : exec tTab (d + 1) K_J2_init [.ref a0] h = R_J2_init d 0 [some (.ref a0)] [] h := exec_eq (cd := k_J2_init) (hd := (fun _ _ => some none)) (L := 1) rfl rfl rfl
/-- java/util/ArrayList.size()I -/
abbrev K_J2_size : Nat := 113
noncomputable def R_J2_size (d pc : Nat) (ls : ALs) (st : List Value) (h : AH) : Option (AOut × AH) := aR (exec tTab d) k_J2_size (fun _ _ => some none) (pc, ls, st, h)
theorem r_J2_size_0 {d : Nat} {a0 : Nat} {h : AH} : R_J2_size d 0 [some (.ref a0)] [] h = (hgf h [19] a0 2).bind fun v => R_J2_size d 4 [some (.ref a0)] [v] h := by
  refine (p_aload rfl rfl).trans ?_
  exact s_getf rfl
theorem r_J2_size_4 {d : Nat} {s0 : Int32} {l0 : Option Value} {h : AH} : R_J2_size d 4 [l0] [.int (s0)] h = some (.inl (some (.int (s0))), h) := s_iretT rfl rfl
theorem e_J2_size {d : Nat} {a0 : Nat} {h : AH} : exec tTab (d + 1) K_J2_size [.ref a0] h = R_J2_size d 0 [some (.ref a0)] [] h := exec_eq (cd := k_J2_size) (hd := (fun _ _ => some none)) (L := 1) rfl rfl rfl
/-- java/util/ArrayList.get(I)Ljava/lang/Object; -/
abbrev K_J2_get : Nat := 114
noncomputable def R_J2_get (d pc : Nat) (ls : ALs) (st : List Value) (h : AH) : Option (AOut × AH) := aR (exec tTab d) k_J2_get (fun _ _ => some none) (pc, ls, st, h)
theorem r_J2_get_0 {d : Nat} {x1 : Int32} {a0 : Nat} {h : AH} : R_J2_get d 0 [some (.ref a0), some (.int (x1))] [] h = (hgf h [19] a0 2).bind fun v => R_J2_get d 5 [some (.ref a0), some (.int (x1))] [v, .int (x1)] h := by
  refine (p_iload rfl rfl).trans ?_
  refine (p_aload rfl rfl).trans ?_
  exact s_getf rfl
theorem r_J2_get_5 {d : Nat} {s0 s1 : Int32} {l0 l1 : Option Value} {h : AH} : R_J2_get d 5 [l0, l1] [.int (s1), .int (s0)] h = aK (exec tTab d 240 [.int (s0), .int (s1)] h) (fun v h1 => R_J2_get d 8 [l0, l1] (v.toList ++ []) h1) (fun E h1 => some (.inr E, h1)) := s_callS (y := 240) (n := 2) rfl rfl
theorem r_J2_get_8 {d : Nat} {s0 x1 : Int32} {a0 : Nat} {h : AH} : R_J2_get d 8 [some (.ref a0), some (.int (x1))] [.int (s0)] h = ((hci h a0).bind (lkN [(19, 115)])).bind fun y => aK (exec tTab d y [.ref a0, .int (x1)] h) (fun v h1 => R_J2_get d 14 [some (.ref a0), some (.int (x1))] (v.toList ++ []) h1) (fun E h1 => some (.inr E, h1)) := by
  refine (p_pop rfl rfl).trans ?_
  refine (p_aload rfl rfl).trans ?_
  refine (p_iload rfl rfl).trans ?_
  exact s_callV (L := [(19, 115)]) (n := 1) (b := a0) (rest := []) rfl rfl rfl
theorem r_J2_get_14 {d : Nat} {b0 : Nat} {l0 l1 : Option Value} {h : AH} : R_J2_get d 14 [l0, l1] [.ref b0] h = some (.inl (some (.ref b0)), h) := s_aret rfl
theorem r_J2_get_14N {d : Nat} {l0 l1 : Option Value} {h : AH} : R_J2_get d 14 [l0, l1] [.null] h = some (.inl (some (.null)), h) := s_aretN rfl
theorem e_J2_get {d : Nat} {a0 : Nat} {x1 : Int32} {h : AH} : exec tTab (d + 1) K_J2_get [.ref a0, .int x1] h = R_J2_get d 0 [some (.ref a0), some (.int x1)] [] h := exec_eq (cd := k_J2_get) (hd := (fun _ _ => some none)) (L := 2) rfl rfl rfl
/-- java/util/ArrayList.elementData(I)Ljava/lang/Object; -/
abbrev K_J2_elementData : Nat := 115
noncomputable def R_J2_elementData (d pc : Nat) (ls : ALs) (st : List Value) (h : AH) : Option (AOut × AH) := aR (exec tTab d) k_J2_elementData (fun _ _ => some none) (pc, ls, st, h)
theorem r_J2_elementData_0 {d : Nat} {a0 : Nat} {l1 : Option Value} {h : AH} : R_J2_elementData d 0 [some (.ref a0), l1] [] h = (hgf h [19] a0 1).bind fun v => R_J2_elementData d 4 [some (.ref a0), l1] [v] h := by
  refine (p_aload rfl rfl).trans ?_
  exact s_getf rfl
theorem r_J2_elementData_4 {d : Nat} {b0 : Nat} {x1 : Int32} {l0 : Option Value} {h : AH} : R_J2_elementData d 4 [l0, some (.int (x1))] [.ref b0] h = (haqs h [3, 4, 5] b0 x1).bind fun v => R_J2_elementData d 6 [l0, some (.int (x1))] [va_rf v] h := by
  refine (p_iload rfl rfl).trans ?_
  exact s_aald rfl
theorem r_J2_elementData_6 {d : Nat} {b0 : Nat} {l0 l1 : Option Value} {h : AH} : R_J2_elementData d 6 [l0, l1] [.ref b0] h = some (.inl (some (.ref b0)), h) := s_aret rfl
theorem r_J2_elementData_6N {d : Nat} {l0 l1 : Option Value} {h : AH} : R_J2_elementData d 6 [l0, l1] [.null] h = some (.inl (some (.null)), h) := s_aretN rfl
theorem e_J2_elementData {d : Nat} {a0 : Nat} {x1 : Int32} {h : AH} : exec tTab (d + 1) K_J2_elementData [.ref a0, .int x1] h = R_J2_elementData d 0 [some (.ref a0), some (.int x1)] [] h := exec_eq (cd := k_J2_elementData) (hd := (fun _ _ => some none)) (L := 2) rfl rfl rfl
/-- java/util/ArrayList.add(Ljava/lang/Object;)Z -/
abbrev K_J2_add : Nat := 116
noncomputable def R_J2_add (d pc : Nat) (ls : ALs) (st : List Value) (h : AH) : Option (AOut × AH) := aR (exec tTab d) k_J2_add (fun _ _ => some none) (pc, ls, st, h)
theorem r_J2_add_0 {d : Nat} {a0 : Nat} {l1 : Option Value} {h : AH} : R_J2_add d 0 [some (.ref a0), l1] [] h = (hgf h [19] a0 0).bind fun v => R_J2_add d 5 [some (.ref a0), l1] [v, .ref a0] h := by
  refine (p_aload rfl rfl).trans ?_
  refine (p_dup rfl rfl).trans ?_
  exact s_getf rfl
theorem r_J2_add_5 {d : Nat} {b0 : Nat} {s1 : Int32} {l0 l1 : Option Value} {h : AH} : R_J2_add d 5 [l0, l1] [.int (s1), .ref b0] h = (hpf h [19] b0 0 (.int (s1 + (nI 1)))).bind fun h1 => R_J2_add d 10 [l0, l1] [] h1 := by
  refine (p_const rfl).trans ?_
  refine (p_bin rfl).trans ?_
  exact s_putT rfl rfl
theorem r_J2_add_10 {d : Nat} {a0 a1 : Nat} {h : AH} : R_J2_add d 10 [some (.ref a0), some (.ref a1)] [] h = (hgf h [19] a0 1).bind fun v => R_J2_add d 16 [some (.ref a0), some (.ref a1)] [v, .ref a1, .ref a0] h := by
  refine (p_aload rfl rfl).trans ?_
  refine (p_aload rfl rfl).trans ?_
  refine (p_aload rfl rfl).trans ?_
  exact s_getf rfl
theorem r_J2_add_16 {d : Nat} {b0 b1 b2 a0 : Nat} {l1 : Option Value} {h : AH} : R_J2_add d 16 [some (.ref a0), l1] [.ref b2, .ref b1, .ref b0] h = (hgf h [19] a0 2).bind fun v => R_J2_add d 20 [some (.ref a0), l1] [v, .ref b2, .ref b1, .ref b0] h := by
  refine (p_aload rfl rfl).trans ?_
  exact s_getf rfl
theorem r_J2_add_16N {d : Nat} {b0 b1 a0 : Nat} {l1 : Option Value} {h : AH} : R_J2_add d 16 [some (.ref a0), l1] [.null, .ref b1, .ref b0] h = (hgf h [19] a0 2).bind fun v => R_J2_add d 20 [some (.ref a0), l1] [v, .null, .ref b1, .ref b0] h := by
  refine (p_aload rfl rfl).trans ?_
  exact s_getf rfl
theorem r_J2_add_20 {d : Nat} {b0 b1 b2 : Nat} {s3 : Int32} {l0 l1 : Option Value} {h : AH} : R_J2_add d 20 [l0, l1] [.int (s3), .ref b2, .ref b1, .ref b0] h = ((hci h b0).bind (lkN [(19, 117)])).bind fun y => aK (exec tTab d y [.ref b0, .ref b1, .ref b2, .int (s3)] h) (fun v h1 => R_J2_add d 23 [l0, l1] (v.toList ++ []) h1) (fun E h1 => some (.inr E, h1)) := s_callV (L := [(19, 117)]) (n := 3) (b := b0) (rest := []) rfl rfl rfl
theorem r_J2_add_23 {d : Nat} {l0 l1 : Option Value} {h : AH} : R_J2_add d 23 [l0, l1] [] h = some (.inl (some (.int ((nI 1)))), h) := by
  refine (p_const rfl).trans ?_
  exact s_iretT rfl rfl
theorem e_J2_add {d : Nat} {a0 a1 : Nat} {h : AH} : exec tTab (d + 1) K_J2_add [.ref a0, .ref a1] h = R_J2_add d 0 [some (.ref a0), some (.ref a1)] [] h := exec_eq (cd := k_J2_add) (hd := (fun _ _ => some none)) (L := 2) rfl rfl rfl
/-- java/util/ArrayList.add(Ljava/lang/Object;[Ljava/lang/Object;I)V -/
abbrev K_J2_add_2 : Nat := 117
noncomputable def R_J2_add_2 (d pc : Nat) (ls : ALs) (st : List Value) (h : AH) : Option (AOut × AH) := aR (exec tTab d) k_J2_add_2 (fun _ _ => some none) (pc, ls, st, h)
theorem r_J2_add_2_0 {d : Nat} {x3 : Int32} {a2 : Nat} {l0 l1 : Option Value} {h : AH} : R_J2_add_2 d 0 [l0, l1, some (.ref a2), some (.int (x3))] [] h = (hal h a2).bind fun v => R_J2_add_2 d 3 [l0, l1, some (.ref a2), some (.int (x3))] [.int (nI v), .int (x3)] h := by
  refine (p_iload rfl rfl).trans ?_
  refine (p_aload rfl rfl).trans ?_
  exact s_alen rfl
theorem r_J2_add_2_3 {d : Nat} {s0 s1 : Int32} {l0 l1 l2 l3 : Option Value} {h : AH} : R_J2_add_2 d 3 [l0, l1, l2, l3] [.int (s1), .int (s0)] h = if ¬ s0 = s1 then R_J2_add_2 d 11 [l0, l1, l2, l3] [] h else R_J2_add_2 d 6 [l0, l1, l2, l3] [] h := (s_icmp (g := (fun x y => decide (¬ x = y))) (t := 11) (nx := 6) rfl).trans bif_dec
theorem r_J2_add_2_11 {d : Nat} {a2 a1 : Nat} {x3 : Int32} {l0 : Option Value} {h : AH} : R_J2_add_2 d 11 [l0, some (.ref a1), some (.ref a2), some (.int (x3))] [] h = bif refOK h anyC anyT a1 then (hsq h 3 a2 x3 (some a1)).bind fun h1 => R_J2_add_2 d 15 [l0, some (.ref a1), some (.ref a2), some (.int (x3))] [] h1 else none := by
  refine (p_aload rfl rfl).trans ?_
  refine (p_iload rfl rfl).trans ?_
  refine (p_aload rfl rfl).trans ?_
  exact s_aast rfl
theorem r_J2_add_2_6 {d : Nat} {a0 : Nat} {l1 l2 l3 : Option Value} {h : AH} : R_J2_add_2 d 6 [some (.ref a0), l1, l2, l3] [] h = ((hci h a0).bind (lkN [(19, 118)])).bind fun y => aK (exec tTab d y [.ref a0] h) (fun v h1 => R_J2_add_2 d 10 [some (.ref a0), l1, l2, l3] (v.toList ++ []) h1) (fun E h1 => some (.inr E, h1)) := by
  refine (p_aload rfl rfl).trans ?_
  exact s_callV (L := [(19, 118)]) (n := 0) (b := a0) (rest := []) rfl rfl rfl
theorem r_J2_add_2_15 {d : Nat} {a0 : Nat} {x3 : Int32} {l1 l2 : Option Value} {h : AH} : R_J2_add_2 d 15 [some (.ref a0), l1, l2, some (.int (x3))] [] h = (hpf h [19] a0 2 (.int (x3 + (nI 1)))).bind fun h1 => R_J2_add_2 d 22 [some (.ref a0), l1, l2, some (.int (x3))] [] h1 := by
  refine (p_aload rfl rfl).trans ?_
  refine (p_iload rfl rfl).trans ?_
  refine (p_const rfl).trans ?_
  refine (p_bin rfl).trans ?_
  exact s_putT rfl rfl
theorem r_J2_add_2_10 {d : Nat} {b0 a1 : Nat} {x3 : Int32} {l0 l2 : Option Value} {h : AH} : R_J2_add_2 d 10 [l0, some (.ref a1), l2, some (.int (x3))] [.ref b0] h = bif refOK h anyC anyT a1 then (hsq h 3 b0 x3 (some a1)).bind fun h1 => R_J2_add_2 d 15 [l0, some (.ref a1), some (.ref b0), some (.int (x3))] [] h1 else none := by
  refine (p_astore rfl rfl rfl).trans ?_
  refine (p_aload rfl rfl).trans ?_
  refine (p_iload rfl rfl).trans ?_
  refine (p_aload rfl rfl).trans ?_
  exact s_aast rfl
theorem r_J2_add_2_22 {d : Nat} {l0 l1 l2 l3 : Option Value} {h : AH} : R_J2_add_2 d 22 [l0, l1, l2, l3] [] h = some (.inl none, h) := s_vret rfl
theorem e_J2_add_2 {d : Nat} {a0 a1 a2 : Nat} {x3 : Int32} {h : AH} : exec tTab (d + 1) K_J2_add_2 [.ref a0, .ref a1, .ref a2, .int x3] h = R_J2_add_2 d 0 [some (.ref a0), some (.ref a1), some (.ref a2), some (.int x3)] [] h := exec_eq (cd := k_J2_add_2) (hd := (fun _ _ => some none)) (L := 4) rfl rfl rfl
/-- java/util/ArrayList.grow()[Ljava/lang/Object; -/
abbrev K_J2_grow : Nat := 118
noncomputable def R_J2_grow (d pc : Nat) (ls : ALs) (st : List Value) (h : AH) : Option (AOut × AH) := aR (exec tTab d) k_J2_grow (fun _ _ => some none) (pc, ls, st, h)
theorem r_J2_grow_0 {d : Nat} {a0 : Nat} {h : AH} : R_J2_grow d 0 [some (.ref a0)] [] h = (hgf h [19] a0 2).bind fun v => R_J2_grow d 5 [some (.ref a0)] [v, .ref a0] h := by
  refine (p_aload rfl rfl).trans ?_
  refine (p_aload rfl rfl).trans ?_
  exact s_getf rfl
theorem r_J2_grow_5 {d : Nat} {b0 : Nat} {s1 : Int32} {l0 : Option Value} {h : AH} : R_J2_grow d 5 [l0] [.int (s1), .ref b0] h = ((hci h b0).bind (lkN [(19, 119)])).bind fun y => aK (exec tTab d y [.ref b0, .int (s1 + (nI 1))] h) (fun v h1 => R_J2_grow d 10 [l0] (v.toList ++ []) h1) (fun E h1 => some (.inr E, h1)) := by
  refine (p_const rfl).trans ?_
  refine (p_bin rfl).trans ?_
  exact s_callV (L := [(19, 119)]) (n := 1) (b := b0) (rest := []) rfl rfl rfl
theorem r_J2_grow_10 {d : Nat} {b0 : Nat} {l0 : Option Value} {h : AH} : R_J2_grow d 10 [l0] [.ref b0] h = some (.inl (some (.ref b0)), h) := s_aret rfl
theorem r_J2_grow_10N {d : Nat} {l0 : Option Value} {h : AH} : R_J2_grow d 10 [l0] [.null] h = some (.inl (some (.null)), h) := s_aretN rfl
theorem e_J2_grow {d : Nat} {a0 : Nat} {h : AH} : exec tTab (d + 1) K_J2_grow [.ref a0] h = R_J2_grow d 0 [some (.ref a0)] [] h := exec_eq (cd := k_J2_grow) (hd := (fun _ _ => some none)) (L := 1) rfl rfl rfl
/-- java/util/ArrayList.grow(I)[Ljava/lang/Object; -/
abbrev K_J2_grow_2 : Nat := 119
noncomputable def R_J2_grow_2 (d pc : Nat) (ls : ALs) (st : List Value) (h : AH) : Option (AOut × AH) := aR (exec tTab d) k_J2_grow_2 (fun _ _ => some none) (pc, ls, st, h)
theorem r_J2_grow_2_0 {d : Nat} {a0 : Nat} {l1 l2 l3 : Option Value} {h : AH} : R_J2_grow_2 d 0 [some (.ref a0), l1, l2, l3] [] h = (hgf h [19] a0 1).bind fun v => R_J2_grow_2 d 4 [some (.ref a0), l1, l2, l3] [v] h := by
  refine (p_aload rfl rfl).trans ?_
  exact s_getf rfl
theorem r_J2_grow_2_4 {d : Nat} {b0 : Nat} {l0 l1 l2 l3 : Option Value} {h : AH} : R_J2_grow_2 d 4 [l0, l1, l2, l3] [.ref b0] h = (hal h b0).bind fun v => R_J2_grow_2 d 5 [l0, l1, l2, l3] [.int (nI v)] h := s_alen rfl
theorem r_J2_grow_2_5 {d : Nat} {s0 : Int32} {l0 l1 l2 l3 : Option Value} {h : AH} : R_J2_grow_2 d 5 [l0, l1, l2, l3] [.int (s0)] h = if 0 < s0 then R_J2_grow_2 d 20 [l0, l1, some (.int (s0)), l3] [] h else R_J2_grow_2 d 10 [l0, l1, some (.int (s0)), l3] [] h := by
  refine (p_istore rfl rfl rfl).trans ?_
  refine (p_iload rfl rfl).trans ?_
  exact (s_if (g := (fun x => decide (0 < x))) (t := 20) (nx := 10) rfl).trans bif_dec
theorem r_J2_grow_2_20 {d : Nat} {x2 x1 : Int32} {l0 l3 : Option Value} {h : AH} : R_J2_grow_2 d 20 [l0, some (.int (x1)), some (.int (x2)), l3] [] h = aK (exec tTab d 252 [.int (x2), .int (x1 - x2), .int (x2 >>> ((nI 1) &&& 31))] h) (fun v h1 => R_J2_grow_2 d 30 [l0, some (.int (x1)), some (.int (x2)), l3] (v.toList ++ []) h1) (fun E h1 => some (.inr E, h1)) := by
  refine (p_iload rfl rfl).trans ?_
  refine (p_iload rfl rfl).trans ?_
  refine (p_iload rfl rfl).trans ?_
  refine (p_bin rfl).trans ?_
  refine (p_iload rfl rfl).trans ?_
  refine (p_const rfl).trans ?_
  refine (p_bin rfl).trans ?_
  exact s_callS (y := 252) (n := 3) rfl rfl
theorem r_J2_grow_2_10 {d : Nat} {a0 : Nat} {l1 l2 l3 : Option Value} {h : AH} : R_J2_grow_2 d 10 [some (.ref a0), l1, l2, l3] [] h = (hgf h [19] a0 1).bind fun v => R_J2_grow_2 d 14 [some (.ref a0), l1, l2, l3] [v] h := by
  refine (p_aload rfl rfl).trans ?_
  exact s_getf rfl
theorem r_J2_grow_2_30 {d : Nat} {s0 : Int32} {a0 : Nat} {l1 l2 l3 : Option Value} {h : AH} : R_J2_grow_2 d 30 [some (.ref a0), l1, l2, l3] [.int (s0)] h = (hgf h [19] a0 1).bind fun v => R_J2_grow_2 d 36 [some (.ref a0), l1, l2, some (.int (s0))] [v, .ref a0] h := by
  refine (p_istore rfl rfl rfl).trans ?_
  refine (p_aload rfl rfl).trans ?_
  refine (p_aload rfl rfl).trans ?_
  exact s_getf rfl
theorem r_J2_grow_2_14 {d : Nat} {b0 : Nat} {l0 l1 l2 l3 : Option Value} {h : AH} : R_J2_grow_2 d 14 [l0, l1, l2, l3] [.ref b0] h = R_J2_grow_2 d 17 [l0, l1, l2, l3] [h.2.2.2 5, .ref b0] h := p_stat rfl
theorem r_J2_grow_2_14N {d : Nat} {l0 l1 l2 l3 : Option Value} {h : AH} : R_J2_grow_2 d 14 [l0, l1, l2, l3] [.null] h = R_J2_grow_2 d 17 [l0, l1, l2, l3] [h.2.2.2 5, .null] h := p_stat rfl
theorem r_J2_grow_2_36 {d : Nat} {b0 b1 : Nat} {x3 : Int32} {l0 l1 l2 : Option Value} {h : AH} : R_J2_grow_2 d 36 [l0, l1, l2, some (.int (x3))] [.ref b1, .ref b0] h = aK (exec tTab d 255 [.ref b1, .int (x3)] h) (fun v h1 => R_J2_grow_2 d 40 [l0, l1, l2, some (.int (x3))] (v.toList ++ [.ref b0]) h1) (fun E h1 => some (.inr E, h1)) := by
  refine (p_iload rfl rfl).trans ?_
  exact s_callS (y := 255) (n := 2) rfl rfl
theorem r_J2_grow_2_36N {d : Nat} {b0 : Nat} {x3 : Int32} {l0 l1 l2 : Option Value} {h : AH} : R_J2_grow_2 d 36 [l0, l1, l2, some (.int (x3))] [.null, .ref b0] h = aK (exec tTab d 255 [.null, .int (x3)] h) (fun v h1 => R_J2_grow_2 d 40 [l0, l1, l2, some (.int (x3))] (v.toList ++ [.ref b0]) h1) (fun E h1 => some (.inr E, h1)) := by
  refine (p_iload rfl rfl).trans ?_
  exact s_callS (y := 255) (n := 2) rfl rfl
theorem r_J2_grow_2_17 {d : Nat} {b0 b1 : Nat} {l0 l1 l2 l3 : Option Value} {h : AH} : R_J2_grow_2 d 17 [l0, l1, l2, l3] [.ref b1, .ref b0] h = if some b0 = some b1 then R_J2_grow_2 d 45 [l0, l1, l2, l3] [] h else R_J2_grow_2 d 20 [l0, l1, l2, l3] [] h := s_acmp' (x := some b0) (y := some b1) rfl rfl rfl
theorem r_J2_grow_2_17N {d : Nat} {b0 : Nat} {l0 l1 l2 l3 : Option Value} {h : AH} : R_J2_grow_2 d 17 [l0, l1, l2, l3] [.null, .ref b0] h = if some b0 = (none : Option Nat) then R_J2_grow_2 d 45 [l0, l1, l2, l3] [] h else R_J2_grow_2 d 20 [l0, l1, l2, l3] [] h := s_acmp' (x := some b0) (y := (none : Option Nat)) rfl rfl rfl
theorem r_J2_grow_2_40 {d : Nat} {b0 b1 : Nat} {l0 l1 l2 l3 : Option Value} {h : AH} : R_J2_grow_2 d 40 [l0, l1, l2, l3] [.ref b1, .ref b0] h = (hpf h [19] b0 1 (.ref b1)).bind fun h1 => R_J2_grow_2 d 44 [l0, l1, l2, l3] [.ref b1] h1 := by
  refine (p_dupx1 rfl rfl).trans ?_
  exact s_putT rfl rfl
theorem r_J2_grow_2_40N {d : Nat} {b0 : Nat} {l0 l1 l2 l3 : Option Value} {h : AH} : R_J2_grow_2 d 40 [l0, l1, l2, l3] [.null, .ref b0] h = (hpf h [19] b0 1 (.null)).bind fun h1 => R_J2_grow_2 d 44 [l0, l1, l2, l3] [.null] h1 := by
  refine (p_dupx1 rfl rfl).trans ?_
  exact s_putT rfl rfl
theorem r_J2_grow_2_45 {d : Nat} {a0 : Nat} {x1 : Int32} {l2 l3 : Option Value} {h : AH} : R_J2_grow_2 d 45 [some (.ref a0), some (.int (x1)), l2, l3] [] h = bif hin (if (nI 10) < x1 then x1 else (nI 10)) 65537 then R_J2_grow_2 d 55 [some (.ref a0), some (.int (x1)), l2, l3] [.ref h.2.1, .ref a0] (hnew h (true, .inl (3, (if (nI 10) < x1 then x1 else (nI 10)).toNatClampNeg, (.inr (.inr (fun _ => none))))) (if (nI 10) < x1 then x1 else (nI 10)).toNatClampNeg) else none := by
  refine (p_aload rfl rfl).trans ?_
  refine (p_const rfl).trans ?_
  refine (p_iload rfl rfl).trans ?_
  refine (s_mth rfl rfl).trans ?_
  exact s_newa (t := 3) (z := (.inr (.inr (fun _ => none)))) rfl
theorem r_J2_grow_2_44 {d : Nat} {b0 : Nat} {l0 l1 l2 l3 : Option Value} {h : AH} : R_J2_grow_2 d 44 [l0, l1, l2, l3] [.ref b0] h = some (.inl (some (.ref b0)), h) := s_aret rfl
theorem r_J2_grow_2_44N {d : Nat} {l0 l1 l2 l3 : Option Value} {h : AH} : R_J2_grow_2 d 44 [l0, l1, l2, l3] [.null] h = some (.inl (some (.null)), h) := s_aretN rfl
theorem r_J2_grow_2_55 {d : Nat} {b0 b1 : Nat} {l0 l1 l2 l3 : Option Value} {h : AH} : R_J2_grow_2 d 55 [l0, l1, l2, l3] [.ref b1, .ref b0] h = (hpf h [19] b0 1 (.ref b1)).bind fun h1 => R_J2_grow_2 d 59 [l0, l1, l2, l3] [.ref b1] h1 := by
  refine (p_dupx1 rfl rfl).trans ?_
  exact s_putT rfl rfl
theorem r_J2_grow_2_55N {d : Nat} {b0 : Nat} {l0 l1 l2 l3 : Option Value} {h : AH} : R_J2_grow_2 d 55 [l0, l1, l2, l3] [.null, .ref b0] h = (hpf h [19] b0 1 (.null)).bind fun h1 => R_J2_grow_2 d 59 [l0, l1, l2, l3] [.null] h1 := by
  refine (p_dupx1 rfl rfl).trans ?_
  exact s_putT rfl rfl
theorem r_J2_grow_2_59 {d : Nat} {b0 : Nat} {l0 l1 l2 l3 : Option Value} {h : AH} : R_J2_grow_2 d 59 [l0, l1, l2, l3] [.ref b0] h = some (.inl (some (.ref b0)), h) := s_aret rfl
theorem r_J2_grow_2_59N {d : Nat} {l0 l1 l2 l3 : Option Value} {h : AH} : R_J2_grow_2 d 59 [l0, l1, l2, l3] [.null] h = some (.inl (some (.null)), h) := s_aretN rfl
theorem e_J2_grow_2 {d : Nat} {a0 : Nat} {x1 : Int32} {h : AH} : exec tTab (d + 1) K_J2_grow_2 [.ref a0, .int x1] h = R_J2_grow_2 d 0 [some (.ref a0), some (.int x1), none, none] [] h := exec_eq (cd := k_J2_grow_2) (hd := (fun _ _ => some none)) (L := 4) rfl rfl rfl
/-- java/util/ArrayList.addAll(Ljava/util/Collection;)Z -/
abbrev K_J2_addAll : Nat := 120
noncomputable def R_J2_addAll (d pc : Nat) (ls : ALs) (st : List Value) (h : AH) : Option (AOut × AH) := aR (exec tTab d) k_J2_addAll (fun _ _ => some none) (pc, ls, st, h)
theorem r_J2_addAll_0 {d : Nat} {a1 : Nat} {l0 l2 l3 l4 l5 : Option Value} {h : AH} : R_J2_addAll d 0 [l0, some (.ref a1), l2, l3, l4, l5] [] h = ((hci h a1).bind (lkN [(19, 121)])).bind fun y => aK (exec tTab d y [.ref a1] h) (fun v h1 => R_J2_addAll d 6 [l0, some (.ref a1), l2, l3, l4, l5] (v.toList ++ []) h1) (fun E h1 => some (.inr E, h1)) := by
  refine (p_aload rfl rfl).trans ?_
  exact s_callV (L := [(19, 121)]) (n := 0) (b := a1) (rest := []) rfl rfl rfl
theorem r_J2_addAll_6 {d : Nat} {b0 a0 : Nat} {l1 l2 l3 l4 l5 : Option Value} {h : AH} : R_J2_addAll d 6 [some (.ref a0), l1, l2, l3, l4, l5] [.ref b0] h = (hgf h [19] a0 0).bind fun v => R_J2_addAll d 12 [some (.ref a0), l1, some (.ref b0), l3, l4, l5] [v, .ref a0] h := by
  refine (p_astore rfl rfl rfl).trans ?_
  refine (p_aload rfl rfl).trans ?_
  refine (p_dup rfl rfl).trans ?_
  exact s_getf rfl
theorem r_J2_addAll_6N {d : Nat} {a0 : Nat} {l1 l2 l3 l4 l5 : Option Value} {h : AH} : R_J2_addAll d 6 [some (.ref a0), l1, l2, l3, l4, l5] [.null] h = (hgf h [19] a0 0).bind fun v => R_J2_addAll d 12 [some (.ref a0), l1, some (.null), l3, l4, l5] [v, .ref a0] h := by
  refine (p_astoreN rfl rfl rfl).trans ?_
  refine (p_aload rfl rfl).trans ?_
  refine (p_dup rfl rfl).trans ?_
  exact s_getf rfl
theorem r_J2_addAll_12 {d : Nat} {b0 : Nat} {s1 : Int32} {l0 l1 l2 l3 l4 l5 : Option Value} {h : AH} : R_J2_addAll d 12 [l0, l1, l2, l3, l4, l5] [.int (s1), .ref b0] h = (hpf h [19] b0 0 (.int (s1 + (nI 1)))).bind fun h1 => R_J2_addAll d 17 [l0, l1, l2, l3, l4, l5] [] h1 := by
  refine (p_const rfl).trans ?_
  refine (p_bin rfl).trans ?_
  exact s_putT rfl rfl
theorem r_J2_addAll_17 {d : Nat} {a2 : Nat} {l0 l1 l3 l4 l5 : Option Value} {h : AH} : R_J2_addAll d 17 [l0, l1, some (.ref a2), l3, l4, l5] [] h = (hal h a2).bind fun v => R_J2_addAll d 19 [l0, l1, some (.ref a2), l3, l4, l5] [.int (nI v)] h := by
  refine (p_aload rfl rfl).trans ?_
  exact s_alen rfl
theorem r_J2_addAll_19 {d : Nat} {s0 : Int32} {l0 l1 l2 l3 l4 l5 : Option Value} {h : AH} : R_J2_addAll d 19 [l0, l1, l2, l3, l4, l5] [.int (s0)] h = if ¬ s0 = 0 then R_J2_addAll d 26 [l0, l1, l2, some (.int (s0)), l4, l5] [] h else R_J2_addAll d 24 [l0, l1, l2, some (.int (s0)), l4, l5] [] h := by
  refine (p_istore rfl rfl rfl).trans ?_
  refine (p_iload rfl rfl).trans ?_
  exact (s_if (g := (fun x => decide (¬ x = 0))) (t := 26) (nx := 24) rfl).trans bif_dec
theorem r_J2_addAll_26 {d : Nat} {x3 : Int32} {a0 : Nat} {l1 l2 l4 l5 : Option Value} {h : AH} : R_J2_addAll d 26 [some (.ref a0), l1, l2, some (.int (x3)), l4, l5] [] h = (hgf h [19] a0 1).bind fun v => R_J2_addAll d 31 [some (.ref a0), l1, l2, some (.int (x3)), l4, l5] [v, .int (x3)] h := by
  refine (p_iload rfl rfl).trans ?_
  refine (p_aload rfl rfl).trans ?_
  exact s_getf rfl
theorem r_J2_addAll_24 {d : Nat} {l0 l1 l2 l3 l4 l5 : Option Value} {h : AH} : R_J2_addAll d 24 [l0, l1, l2, l3, l4, l5] [] h = some (.inl (some (.int ((nI 0)))), h) := by
  refine (p_const rfl).trans ?_
  exact s_iretT rfl rfl
theorem r_J2_addAll_31 {d : Nat} {s0 : Int32} {b1 : Nat} {l0 l1 l2 l3 l4 l5 : Option Value} {h : AH} : R_J2_addAll d 31 [l0, l1, l2, l3, l4, l5] [.ref b1, .int (s0)] h = (hal h b1).bind fun v => R_J2_addAll d 35 [l0, l1, l2, l3, some (.ref b1), l5] [.int (nI v), .int (s0)] h := by
  refine (p_dup rfl rfl).trans ?_
  refine (p_astore rfl rfl rfl).trans ?_
  exact s_alen rfl
theorem r_J2_addAll_35 {d : Nat} {s0 s1 : Int32} {a0 : Nat} {l1 l2 l3 l4 l5 : Option Value} {h : AH} : R_J2_addAll d 35 [some (.ref a0), l1, l2, l3, l4, l5] [.int (s1), .int (s0)] h = (hgf h [19] a0 2).bind fun v => R_J2_addAll d 39 [some (.ref a0), l1, l2, l3, l4, l5] [v, .int (s1), .int (s0)] h := by
  refine (p_aload rfl rfl).trans ?_
  exact s_getf rfl
theorem r_J2_addAll_39 {d : Nat} {s0 s1 s2 : Int32} {l0 l1 l2 l3 l4 l5 : Option Value} {h : AH} : R_J2_addAll d 39 [l0, l1, l2, l3, l4, l5] [.int (s2), .int (s1), .int (s0)] h = if s0 ≤ (s1 - s2) then R_J2_addAll d 56 [l0, l1, l2, l3, l4, some (.int (s2))] [] h else R_J2_addAll d 46 [l0, l1, l2, l3, l4, some (.int (s2))] [] h := by
  refine (p_dup rfl rfl).trans ?_
  refine (p_istore rfl rfl rfl).trans ?_
  refine (p_bin rfl).trans ?_
  exact (s_icmp (g := (fun x y => decide (x ≤ y))) (t := 56) (nx := 46) rfl).trans bif_dec
theorem r_J2_addAll_56 {d : Nat} {a2 a4 : Nat} {x5 x3 : Int32} {l0 l1 : Option Value} {h : AH} : R_J2_addAll d 56 [l0, l1, some (.ref a2), some (.int (x3)), some (.ref a4), some (.int (x5))] [] h = (hcpy h anyC anyT a2 a4 (nI 0) x5 x3).bind fun h1 => R_J2_addAll d 66 [l0, l1, some (.ref a2), some (.int (x3)), some (.ref a4), some (.int (x5))] [] h1 := by
  refine (p_aload rfl rfl).trans ?_
  refine (p_const rfl).trans ?_
  refine (p_aload rfl rfl).trans ?_
  refine (p_iload rfl rfl).trans ?_
  refine (p_iload rfl rfl).trans ?_
  exact s_copy rfl rfl
theorem r_J2_addAll_46 {d : Nat} {a0 : Nat} {x5 x3 : Int32} {l1 l2 l4 : Option Value} {h : AH} : R_J2_addAll d 46 [some (.ref a0), l1, l2, some (.int (x3)), l4, some (.int (x5))] [] h = ((hci h a0).bind (lkN [(19, 119)])).bind fun y => aK (exec tTab d y [.ref a0, .int (x5 + x3)] h) (fun v h1 => R_J2_addAll d 54 [some (.ref a0), l1, l2, some (.int (x3)), l4, some (.int (x5))] (v.toList ++ []) h1) (fun E h1 => some (.inr E, h1)) := by
  refine (p_aload rfl rfl).trans ?_
  refine (p_iload rfl rfl).trans ?_
  refine (p_iload rfl rfl).trans ?_
  refine (p_bin rfl).trans ?_
  exact s_callV (L := [(19, 119)]) (n := 1) (b := a0) (rest := []) rfl rfl rfl
theorem r_J2_addAll_66 {d : Nat} {a0 : Nat} {x5 x3 : Int32} {l1 l2 l4 : Option Value} {h : AH} : R_J2_addAll d 66 [some (.ref a0), l1, l2, some (.int (x3)), l4, some (.int (x5))] [] h = (hpf h [19] a0 2 (.int (x5 + x3))).bind fun h1 => R_J2_addAll d 74 [some (.ref a0), l1, l2, some (.int (x3)), l4, some (.int (x5))] [] h1 := by
  refine (p_aload rfl rfl).trans ?_
  refine (p_iload rfl rfl).trans ?_
  refine (p_iload rfl rfl).trans ?_
  refine (p_bin rfl).trans ?_
  exact s_putT rfl rfl
theorem r_J2_addAll_54 {d : Nat} {b0 a2 : Nat} {x5 x3 : Int32} {l0 l1 l4 : Option Value} {h : AH} : R_J2_addAll d 54 [l0, l1, some (.ref a2), some (.int (x3)), l4, some (.int (x5))] [.ref b0] h = (hcpy h anyC anyT a2 b0 (nI 0) x5 x3).bind fun h1 => R_J2_addAll d 66 [l0, l1, some (.ref a2), some (.int (x3)), some (.ref b0), some (.int (x5))] [] h1 := by
  refine (p_astore rfl rfl rfl).trans ?_
  refine (p_aload rfl rfl).trans ?_
  refine (p_const rfl).trans ?_
  refine (p_aload rfl rfl).trans ?_
  refine (p_iload rfl rfl).trans ?_
  refine (p_iload rfl rfl).trans ?_
  exact s_copy rfl rfl
theorem r_J2_addAll_74 {d : Nat} {l0 l1 l2 l3 l4 l5 : Option Value} {h : AH} : R_J2_addAll d 74 [l0, l1, l2, l3, l4, l5] [] h = some (.inl (some (.int ((nI 1)))), h) := by
  refine (p_const rfl).trans ?_
  exact s_iretT rfl rfl
theorem e_J2_addAll {d : Nat} {a0 a1 : Nat} {h : AH} : exec tTab (d + 1) K_J2_addAll [.ref a0, .ref a1] h = R_J2_addAll d 0 [some (.ref a0), some (.ref a1), none, none, none, none] [] h := exec_eq (cd := k_J2_addAll) (hd := (fun _ _ => some none)) (L := 6) rfl rfl rfl
/-- java/util/ArrayList.toArray()[Ljava/lang/Object; -/
abbrev K_J2_toArray : Nat := 121
noncomputable def R_J2_toArray (d pc : Nat) (ls : ALs) (st : List Value) (h : AH) : Option (AOut × AH) := aR (exec tTab d) k_J2_toArray (fun _ _ => some none) (pc, ls, st, h)
theorem r_J2_toArray_0 {d : Nat} {a0 : Nat} {h : AH} : R_J2_toArray d 0 [some (.ref a0)] [] h = (hgf h [19] a0 1).bind fun v => R_J2_toArray d 4 [some (.ref a0)] [v] h := by
  refine (p_aload rfl rfl).trans ?_
  exact s_getf rfl
theorem r_J2_toArray_4 {d : Nat} {b0 a0 : Nat} {h : AH} : R_J2_toArray d 4 [some (.ref a0)] [.ref b0] h = (hgf h [19] a0 2).bind fun v => R_J2_toArray d 8 [some (.ref a0)] [v, .ref b0] h := by
  refine (p_aload rfl rfl).trans ?_
  exact s_getf rfl
theorem r_J2_toArray_4N {d : Nat} {a0 : Nat} {h : AH} : R_J2_toArray d 4 [some (.ref a0)] [.null] h = (hgf h [19] a0 2).bind fun v => R_J2_toArray d 8 [some (.ref a0)] [v, .null] h := by
  refine (p_aload rfl rfl).trans ?_
  exact s_getf rfl
theorem r_J2_toArray_8 {d : Nat} {b0 : Nat} {s1 : Int32} {l0 : Option Value} {h : AH} : R_J2_toArray d 8 [l0] [.int (s1), .ref b0] h = aK (exec tTab d 255 [.ref b0, .int (s1)] h) (fun v h1 => R_J2_toArray d 11 [l0] (v.toList ++ []) h1) (fun E h1 => some (.inr E, h1)) := s_callS (y := 255) (n := 2) rfl rfl
theorem r_J2_toArray_11 {d : Nat} {b0 : Nat} {l0 : Option Value} {h : AH} : R_J2_toArray d 11 [l0] [.ref b0] h = some (.inl (some (.ref b0)), h) := s_aret rfl
theorem r_J2_toArray_11N {d : Nat} {l0 : Option Value} {h : AH} : R_J2_toArray d 11 [l0] [.null] h = some (.inl (some (.null)), h) := s_aretN rfl
theorem e_J2_toArray {d : Nat} {a0 : Nat} {h : AH} : exec tTab (d + 1) K_J2_toArray [.ref a0] h = R_J2_toArray d 0 [some (.ref a0)] [] h := exec_eq (cd := k_J2_toArray) (hd := (fun _ _ => some none)) (L := 1) rfl rfl rfl
/-- java/util/Objects.checkIndex(II)I -/
abbrev K_J3_checkIndex : Nat := 240
noncomputable def R_J3_checkIndex (d pc : Nat) (ls : ALs) (st : List Value) (h : AH) : Option (AOut × AH) := aR (exec tTab d) k_J3_checkIndex (fun _ _ => some none) (pc, ls, st, h)
theorem r_J3_checkIndex_0 {d : Nat} {x0 x1 : Int32} {h : AH} : R_J3_checkIndex d 0 [some (.int (x0)), some (.int (x1))] [] h = aK (exec tTab d 241 [.int (x0), .int (x1), .null] h) (fun v h1 => R_J3_checkIndex d 6 [some (.int (x0)), some (.int (x1))] (v.toList ++ []) h1) (fun E h1 => some (.inr E, h1)) := by
  refine (p_iload rfl rfl).trans ?_
  refine (p_iload rfl rfl).trans ?_
  refine (p_const rfl).trans ?_
  exact s_callS (y := 241) (n := 3) rfl rfl
theorem r_J3_checkIndex_6 {d : Nat} {s0 : Int32} {l0 l1 : Option Value} {h : AH} : R_J3_checkIndex d 6 [l0, l1] [.int (s0)] h = some (.inl (some (.int (s0))), h) := s_iretT rfl rfl
theorem e_J3_checkIndex {d : Nat} {x0 x1 : Int32} {h : AH} : exec tTab (d + 1) K_J3_checkIndex [.int x0, .int x1] h = R_J3_checkIndex d 0 [some (.int x0), some (.int x1)] [] h := exec_eq (cd := k_J3_checkIndex) (hd := (fun _ _ => some none)) (L := 2) rfl rfl rfl
/-- jdk/internal/util/Preconditions.checkIndex(IILjava/util/function/BiFunction;)I -/
abbrev K_J4_checkIndex : Nat := 241
noncomputable def R_J4_checkIndex (d pc : Nat) (ls : ALs) (st : List Value) (h : AH) : Option (AOut × AH) := aR (exec tTab d) k_J4_checkIndex (fun _ _ => some none) (pc, ls, st, h)
theorem r_J4_checkIndex_0 {d : Nat} {x0 : Int32} {l1 l2 : Option Value} {h : AH} : R_J4_checkIndex d 0 [some (.int (x0)), l1, l2] [] h = if x0 < 0 then R_J4_checkIndex d 9 [some (.int (x0)), l1, l2] [] h else R_J4_checkIndex d 4 [some (.int (x0)), l1, l2] [] h := by
  refine (p_iload rfl rfl).trans ?_
  exact (s_if (g := (fun x => decide (x < 0))) (t := 9) (nx := 4) rfl).trans bif_dec
theorem r_J4_checkIndex_4 {d : Nat} {x0 x1 : Int32} {l2 : Option Value} {h : AH} : R_J4_checkIndex d 4 [some (.int (x0)), some (.int (x1)), l2] [] h = if x0 < x1 then R_J4_checkIndex d 16 [some (.int (x0)), some (.int (x1)), l2] [] h else R_J4_checkIndex d 9 [some (.int (x0)), some (.int (x1)), l2] [] h := by
  refine (p_iload rfl rfl).trans ?_
  refine (p_iload rfl rfl).trans ?_
  exact (s_icmp (g := (fun x y => decide (x < y))) (t := 16) (nx := 9) rfl).trans bif_dec
theorem r_J4_checkIndex_16 {d : Nat} {x0 : Int32} {l1 l2 : Option Value} {h : AH} : R_J4_checkIndex d 16 [some (.int (x0)), l1, l2] [] h = some (.inl (some (.int (x0))), h) := by
  refine (p_iload rfl rfl).trans ?_
  exact s_iretT rfl rfl
theorem e_J4_checkIndex {d : Nat} {x0 x1 : Int32} {a2 : Nat} {h : AH} : exec tTab (d + 1) K_J4_checkIndex [.int x0, .int x1, .ref a2] h = R_J4_checkIndex d 0 [some (.int x0), some (.int x1), some (.ref a2)] [] h := exec_eq (cd := k_J4_checkIndex) (hd := (fun _ _ => some none)) (L := 3) rfl rfl rfl
/-- jdk/internal/util/ArraysSupport.newLength(III)I -/
abbrev K_J5_newLength : Nat := 252
noncomputable def R_J5_newLength (d pc : Nat) (ls : ALs) (st : List Value) (h : AH) : Option (AOut × AH) := aR (exec tTab d) k_J5_newLength (fun _ _ => some none) (pc, ls, st, h)
theorem r_J5_newLength_0 {d : Nat} {x0 x1 x2 : Int32} {l3 : Option Value} {h : AH} : R_J5_newLength d 0 [some (.int (x0)), some (.int (x1)), some (.int (x2)), l3] [] h = if (x0 + (if x1 < x2 then x2 else x1)) ≤ (nI 0) then R_J5_newLength d 21 [some (.int (x0)), some (.int (x1)), some (.int (x2)), some (.int (x0 + (if x1 < x2 then x2 else x1)))] [] h else R_J5_newLength d 13 [some (.int (x0)), some (.int (x1)), some (.int (x2)), some (.int (x0 + (if x1 < x2 then x2 else x1)))] [] h := by
  refine (p_iload rfl rfl).trans ?_
  refine (p_iload rfl rfl).trans ?_
  refine (p_iload rfl rfl).trans ?_
  refine (s_mth rfl rfl).trans ?_
  refine (p_bin rfl).trans ?_
  refine (p_istore rfl rfl rfl).trans ?_
  refine (p_const rfl).trans ?_
  refine (p_iload rfl rfl).trans ?_
  exact (s_icmp (g := (fun x y => decide (y ≤ x))) (t := 21) (nx := 13) rfl).trans bif_dec
theorem r_J5_newLength_13 {d : Nat} {x3 : Int32} {l0 l1 l2 : Option Value} {h : AH} : R_J5_newLength d 13 [l0, l1, l2, some (.int (x3))] [] h = if (2147483639 : Int32) < x3 then R_J5_newLength d 21 [l0, l1, l2, some (.int (x3))] [] h else R_J5_newLength d 19 [l0, l1, l2, some (.int (x3))] [] h := by
  refine (p_iload rfl rfl).trans ?_
  refine (p_const rfl).trans ?_
  exact (s_icmp (g := (fun x y => decide (y < x))) (t := 21) (nx := 19) rfl).trans bif_dec
theorem r_J5_newLength_19 {d : Nat} {x3 : Int32} {l0 l1 l2 : Option Value} {h : AH} : R_J5_newLength d 19 [l0, l1, l2, some (.int (x3))] [] h = some (.inl (some (.int (x3))), h) := by
  refine (p_iload rfl rfl).trans ?_
  exact s_iretT rfl rfl
theorem e_J5_newLength {d : Nat} {x0 x1 x2 : Int32} {h : AH} : exec tTab (d + 1) K_J5_newLength [.int x0, .int x1, .int x2] h = R_J5_newLength d 0 [some (.int x0), some (.int x1), some (.int x2), none] [] h := exec_eq (cd := k_J5_newLength) (hd := (fun _ _ => some none)) (L := 4) rfl rfl rfl
/-- jdk/internal/util/ArraysSupport.vectorizedHashCode(Ljava/lang/Object;IIII)I -/
abbrev K_J5_vectorizedHashCode : Nat := 253
noncomputable def R_J5_vectorizedHashCode (d pc : Nat) (ls : ALs) (st : List Value) (h : AH) : Option (AOut × AH) := aR (exec tTab d) k_J5_vectorizedHashCode (fun _ _ => some none) (pc, ls, st, h)
theorem r_J5_vectorizedHashCode_0 {d : Nat} {x4 : Int32} {l0 l1 l2 l3 : Option Value} {h : AH} : R_J5_vectorizedHashCode d 0 [l0, l1, l2, l3, some (.int (x4))] [] h = R_J5_vectorizedHashCode d (if x4.toInt < 4 ∨ 10 < x4.toInt then 129 else [44, 57, 129, 129, 90, 103, 116].getD (x4.toInt - 4).toNat 0) [l0, l1, l2, l3, some (.int (x4))] [] h := by
  refine (p_iload rfl rfl).trans ?_
  exact p_sw (g := (fun x => if x.toInt < 4 ∨ 10 < x.toInt then 129 else [44, 57, 129, 129, 90, 103, 116].getD (x.toInt - 4).toNat 0)) rfl
theorem r_J5_vectorizedHashCode_44 {d : Nat} {x3 : Int32} {a0 : Nat} {l1 l2 l4 : Option Value} {h : AH} : R_J5_vectorizedHashCode d 44 [some (.ref a0), l1, l2, some (.int (x3)), l4] [] h = bif hck h [] [1] a0 then R_J5_vectorizedHashCode d 49 [some (.ref a0), l1, l2, some (.int (x3)), l4] [.ref a0, .int (x3)] h else none := by
  refine (p_iload rfl rfl).trans ?_
  refine (p_aload rfl rfl).trans ?_
  exact s_cast rfl
theorem r_J5_vectorizedHashCode_90 {d : Nat} {x3 : Int32} {a0 : Nat} {l1 l2 l4 : Option Value} {h : AH} : R_J5_vectorizedHashCode d 90 [some (.ref a0), l1, l2, some (.int (x3)), l4] [] h = bif hck h [] [1] a0 then R_J5_vectorizedHashCode d 95 [some (.ref a0), l1, l2, some (.int (x3)), l4] [.ref a0, .int (x3)] h else none := by
  refine (p_iload rfl rfl).trans ?_
  refine (p_aload rfl rfl).trans ?_
  exact s_cast rfl
theorem r_J5_vectorizedHashCode_116 {d : Nat} {x3 : Int32} {a0 : Nat} {l1 l2 l4 : Option Value} {h : AH} : R_J5_vectorizedHashCode d 116 [some (.ref a0), l1, l2, some (.int (x3)), l4] [] h = bif hck h [] [0] a0 then R_J5_vectorizedHashCode d 121 [some (.ref a0), l1, l2, some (.int (x3)), l4] [.ref a0, .int (x3)] h else none := by
  refine (p_iload rfl rfl).trans ?_
  refine (p_aload rfl rfl).trans ?_
  exact s_cast rfl
theorem r_J5_vectorizedHashCode_49 {d : Nat} {s0 x1 x2 : Int32} {b1 : Nat} {l0 l3 l4 : Option Value} {h : AH} : R_J5_vectorizedHashCode d 49 [l0, some (.int (x1)), some (.int (x2)), l3, l4] [.ref b1, .int (s0)] h = aK (exec tTab d 254 [.int (s0), .ref b1, .int (x1), .int (x2)] h) (fun v h1 => R_J5_vectorizedHashCode d 54 [l0, some (.int (x1)), some (.int (x2)), l3, l4] (v.toList ++ []) h1) (fun E h1 => some (.inr E, h1)) := by
  refine (p_iload rfl rfl).trans ?_
  refine (p_iload rfl rfl).trans ?_
  exact s_callS (y := 254) (n := 4) rfl rfl
theorem r_J5_vectorizedHashCode_49N {d : Nat} {s0 x1 x2 : Int32} {l0 l3 l4 : Option Value} {h : AH} : R_J5_vectorizedHashCode d 49 [l0, some (.int (x1)), some (.int (x2)), l3, l4] [.null, .int (s0)] h = aK (exec tTab d 254 [.int (s0), .null, .int (x1), .int (x2)] h) (fun v h1 => R_J5_vectorizedHashCode d 54 [l0, some (.int (x1)), some (.int (x2)), l3, l4] (v.toList ++ []) h1) (fun E h1 => some (.inr E, h1)) := by
  refine (p_iload rfl rfl).trans ?_
  refine (p_iload rfl rfl).trans ?_
  exact s_callS (y := 254) (n := 4) rfl rfl
theorem r_J5_vectorizedHashCode_54 {d : Nat} {s0 : Int32} {l0 l1 l2 l3 l4 : Option Value} {h : AH} : R_J5_vectorizedHashCode d 54 [l0, l1, l2, l3, l4] [.int (s0)] h = some (.inl (some (.int (s0))), h) := by
  refine (p_goto rfl).trans ?_
  exact s_iretT rfl rfl
theorem e_J5_vectorizedHashCode {d : Nat} {a0 : Nat} {x1 x2 x3 x4 : Int32} {h : AH} : exec tTab (d + 1) K_J5_vectorizedHashCode [.ref a0, .int x1, .int x2, .int x3, .int x4] h = R_J5_vectorizedHashCode d 0 [some (.ref a0), some (.int x1), some (.int x2), some (.int x3), some (.int x4)] [] h := exec_eq (cd := k_J5_vectorizedHashCode) (hd := (fun _ _ => some none)) (L := 5) rfl rfl rfl
/-- jdk/internal/util/ArraysSupport.signedHashCode(I[BII)I -/
abbrev K_J5_signedHashCode : Nat := 254
noncomputable def R_J5_signedHashCode (d pc : Nat) (ls : ALs) (st : List Value) (h : AH) : Option (AOut × AH) := aR (exec tTab d) k_J5_signedHashCode (fun _ _ => some none) (pc, ls, st, h)
theorem r_J5_signedHashCode_0 {d : Nat} {x2 x3 : Int32} {l0 l1 l4 l5 : Option Value} {h : AH} : R_J5_signedHashCode d 0 [l0, l1, some (.int (x2)), some (.int (x3)), l4, l5] [] h = R_J5_signedHashCode d 8 [l0, l1, some (.int (x2)), some (.int (x3)), some (.int (x2 + x3)), some (.int (x2))] [] h := by
  refine (p_iload rfl rfl).trans ?_
  refine (p_iload rfl rfl).trans ?_
  refine (p_bin rfl).trans ?_
  refine (p_istore rfl rfl rfl).trans ?_
  refine (p_iload rfl rfl).trans ?_
  refine (p_istore rfl rfl rfl).trans ?_
  exact rfl
theorem q_J5_signedHashCode_8 {d : Nat} {x5 x4 : Int32} {l0 l1 l2 l3 : Option Value} {h : AH} : R_J5_signedHashCode d 8 [l0, l1, l2, l3, some (.int (x4)), some (.int (x5))] [] h = if x4 ≤ x5 then R_J5_signedHashCode d 35 [l0, l1, l2, l3, some (.int (x4)), some (.int (x5))] [] h else R_J5_signedHashCode d 15 [l0, l1, l2, l3, some (.int (x4)), some (.int (x5))] [] h := by
  refine (p_iload rfl rfl).trans ?_
  refine (p_iload rfl rfl).trans ?_
  exact (s_icmp (g := (fun x y => decide (y ≤ x))) (t := 35) (nx := 15) rfl).trans bif_dec
theorem r_J5_signedHashCode_35 {d : Nat} {x0 : Int32} {l1 l2 l3 l4 l5 : Option Value} {h : AH} : R_J5_signedHashCode d 35 [some (.int (x0)), l1, l2, l3, l4, l5] [] h = some (.inl (some (.int (x0))), h) := by
  refine (p_iload rfl rfl).trans ?_
  exact s_iretT rfl rfl
theorem r_J5_signedHashCode_15 {d : Nat} {x0 x5 : Int32} {a1 : Nat} {l2 l3 l4 : Option Value} {h : AH} : R_J5_signedHashCode d 15 [some (.int (x0)), some (.ref a1), l2, l3, l4, some (.int (x5))] [] h = (hai h 1 a1 x5).bind fun v => R_J5_signedHashCode d 23 [some (.int (x0)), some (.ref a1), l2, l3, l4, some (.int (x5))] [.int v, .int ((nI 31) * x0)] h := by
  refine (p_const rfl).trans ?_
  refine (p_iload rfl rfl).trans ?_
  refine (p_bin rfl).trans ?_
  refine (p_aload rfl rfl).trans ?_
  refine (p_iload rfl rfl).trans ?_
  exact s_iald rfl
theorem r_J5_signedHashCode_23 {d : Nat} {s0 s1 x5 : Int32} {l0 l1 l2 l3 l4 : Option Value} {h : AH} : R_J5_signedHashCode d 23 [l0, l1, l2, l3, l4, some (.int (x5))] [.int (s1), .int (s0)] h = R_J5_signedHashCode d 8 [some (.int (s0 + (s1 &&& (nI 255)))), l1, l2, l3, l4, some (.int (x5 + (nI 1)))] [] h := by
  refine (p_const rfl).trans ?_
  refine (p_bin rfl).trans ?_
  refine (p_bin rfl).trans ?_
  refine (p_istore rfl rfl rfl).trans ?_
  refine (p_iinc rfl rfl rfl).trans ?_
  refine (p_goto rfl).trans ?_
  exact rfl
theorem e_J5_signedHashCode {d : Nat} {x0 x2 x3 : Int32} {a1 : Nat} {h : AH} : exec tTab (d + 1) K_J5_signedHashCode [.int x0, .ref a1, .int x2, .int x3] h = R_J5_signedHashCode d 0 [some (.int x0), some (.ref a1), some (.int x2), some (.int x3), none, none] [] h := exec_eq (cd := k_J5_signedHashCode) (hd := (fun _ _ => some none)) (L := 6) rfl rfl rfl
/-- java/util/Arrays.copyOf([Ljava/lang/Object;I)[Ljava/lang/Object; -/
abbrev K_J7_copyOf : Nat := 255
noncomputable def R_J7_copyOf (d pc : Nat) (ls : ALs) (st : List Value) (h : AH) : Option (AOut × AH) := aR (exec tTab d) k_J7_copyOf (fun _ _ => some none) (pc, ls, st, h)
theorem r_J7_copyOf_0 {d : Nat} {a0 : Nat} {x1 : Int32} {h : AH} : R_J7_copyOf d 0 [some (.ref a0), some (.int (x1))] [] h = bif hgC h a0 then R_J7_copyOf d 6 [some (.ref a0), some (.int (x1))] [h.2.2.2 8, .int (x1), .ref a0] h else none := by
  refine (p_aload rfl rfl).trans ?_
  refine (p_iload rfl rfl).trans ?_
  refine (p_aload rfl rfl).trans ?_
  exact s_getC rfl rfl
theorem r_J7_copyOf_6 {d : Nat} {b0 b2 : Nat} {s1 : Int32} {l0 l1 : Option Value} {h : AH} : R_J7_copyOf d 6 [l0, l1] [.ref b2, .int (s1), .ref b0] h = aK (exec tTab d 256 [.ref b0, .int (s1), .ref b2] h) (fun v h1 => R_J7_copyOf d 9 [l0, l1] (v.toList ++ []) h1) (fun E h1 => some (.inr E, h1)) := s_callS (y := 256) (n := 3) rfl rfl
theorem r_J7_copyOf_6N {d : Nat} {b0 : Nat} {s1 : Int32} {l0 l1 : Option Value} {h : AH} : R_J7_copyOf d 6 [l0, l1] [.null, .int (s1), .ref b0] h = aK (exec tTab d 256 [.ref b0, .int (s1), .null] h) (fun v h1 => R_J7_copyOf d 9 [l0, l1] (v.toList ++ []) h1) (fun E h1 => some (.inr E, h1)) := s_callS (y := 256) (n := 3) rfl rfl
theorem r_J7_copyOf_9 {d : Nat} {b0 : Nat} {l0 l1 : Option Value} {h : AH} : R_J7_copyOf d 9 [l0, l1] [.ref b0] h = some (.inl (some (.ref b0)), h) := s_aret rfl
theorem r_J7_copyOf_9N {d : Nat} {l0 l1 : Option Value} {h : AH} : R_J7_copyOf d 9 [l0, l1] [.null] h = some (.inl (some (.null)), h) := s_aretN rfl
theorem e_J7_copyOf {d : Nat} {a0 : Nat} {x1 : Int32} {h : AH} : exec tTab (d + 1) K_J7_copyOf [.ref a0, .int x1] h = R_J7_copyOf d 0 [some (.ref a0), some (.int x1)] [] h := exec_eq (cd := k_J7_copyOf) (hd := (fun _ _ => some none)) (L := 2) rfl rfl rfl
/-- java/util/Arrays.copyOf([Ljava/lang/Object;ILjava/lang/Class;)[Ljava/lang/Object; -/
abbrev K_J7_copyOf_2 : Nat := 256
noncomputable def R_J7_copyOf_2 (d pc : Nat) (ls : ALs) (st : List Value) (h : AH) : Option (AOut × AH) := aR (exec tTab d) k_J7_copyOf_2 (fun _ _ => some none) (pc, ls, st, h)
theorem r_J7_copyOf_2_0 {d : Nat} {a2 : Nat} {l0 l1 l3 : Option Value} {h : AH} : R_J7_copyOf_2 d 0 [l0, l1, some (.ref a2), l3] [] h = R_J7_copyOf_2 d 3 [l0, l1, some (.ref a2), l3] [h.2.2.2 8, .ref a2] h := by
  refine (p_aload rfl rfl).trans ?_
  exact p_stat rfl
theorem r_J7_copyOf_2_3 {d : Nat} {b0 b1 : Nat} {l0 l1 l2 l3 : Option Value} {h : AH} : R_J7_copyOf_2 d 3 [l0, l1, l2, l3] [.ref b1, .ref b0] h = if some b0 = some b1 then R_J7_copyOf_2 d 6 [l0, l1, l2, l3] [] h else R_J7_copyOf_2 d 13 [l0, l1, l2, l3] [] h := s_acmp' (x := some b0) (y := some b1) rfl rfl rfl
theorem r_J7_copyOf_2_3N {d : Nat} {b0 : Nat} {l0 l1 l2 l3 : Option Value} {h : AH} : R_J7_copyOf_2 d 3 [l0, l1, l2, l3] [.null, .ref b0] h = if some b0 = (none : Option Nat) then R_J7_copyOf_2 d 6 [l0, l1, l2, l3] [] h else R_J7_copyOf_2 d 13 [l0, l1, l2, l3] [] h := s_acmp' (x := some b0) (y := (none : Option Nat)) rfl rfl rfl
theorem r_J7_copyOf_2_6 {d : Nat} {x1 : Int32} {l0 l2 l3 : Option Value} {h : AH} : R_J7_copyOf_2 d 6 [l0, some (.int (x1)), l2, l3] [] h = bif hin x1 65537 then R_J7_copyOf_2 d 10 [l0, some (.int (x1)), l2, l3] [.ref h.2.1] (hnew h (true, .inl (3, (x1).toNatClampNeg, (.inr (.inr (fun _ => none))))) (x1).toNatClampNeg) else none := by
  refine (p_iload rfl rfl).trans ?_
  exact s_newa (t := 3) (z := (.inr (.inr (fun _ => none)))) rfl
theorem r_J7_copyOf_2_10 {d : Nat} {b0 a0 : Nat} {l1 l2 l3 : Option Value} {h : AH} : R_J7_copyOf_2 d 10 [some (.ref a0), l1, l2, l3] [.ref b0] h = (hal h a0).bind fun v => R_J7_copyOf_2 d 31 [some (.ref a0), l1, l2, some (.ref b0)] [.int (nI v), .int ((nI 0)), .ref b0, .int ((nI 0)), .ref a0] h := by
  refine (p_goto rfl).trans ?_
  refine (p_astore rfl rfl rfl).trans ?_
  refine (p_aload rfl rfl).trans ?_
  refine (p_const rfl).trans ?_
  refine (p_aload rfl rfl).trans ?_
  refine (p_const rfl).trans ?_
  refine (p_aload rfl rfl).trans ?_
  exact s_alen rfl
theorem r_J7_copyOf_2_10N {d : Nat} {a0 : Nat} {l1 l2 l3 : Option Value} {h : AH} : R_J7_copyOf_2 d 10 [some (.ref a0), l1, l2, l3] [.null] h = (hal h a0).bind fun v => R_J7_copyOf_2 d 31 [some (.ref a0), l1, l2, some (.null)] [.int (nI v), .int ((nI 0)), .null, .int ((nI 0)), .ref a0] h := by
  refine (p_goto rfl).trans ?_
  refine (p_astoreN rfl rfl rfl).trans ?_
  refine (p_aload rfl rfl).trans ?_
  refine (p_const rfl).trans ?_
  refine (p_aloadN rfl rfl).trans ?_
  refine (p_const rfl).trans ?_
  refine (p_aload rfl rfl).trans ?_
  exact s_alen rfl
theorem r_J7_copyOf_2_31 {d : Nat} {b0 b2 : Nat} {s1 s3 s4 x1 : Int32} {l0 l2 l3 : Option Value} {h : AH} : R_J7_copyOf_2 d 31 [l0, some (.int (x1)), l2, l3] [.int (s4), .int (s3), .ref b2, .int (s1), .ref b0] h = (hcpy h anyC anyT b0 b2 s1 s3 (if x1 < s4 then x1 else s4)).bind fun h1 => R_J7_copyOf_2 d 38 [l0, some (.int (x1)), l2, l3] [] h1 := by
  refine (p_iload rfl rfl).trans ?_
  refine (s_mth rfl rfl).trans ?_
  exact s_copy rfl rfl
theorem r_J7_copyOf_2_38 {d : Nat} {a3 : Nat} {l0 l1 l2 : Option Value} {h : AH} : R_J7_copyOf_2 d 38 [l0, l1, l2, some (.ref a3)] [] h = some (.inl (some (.ref a3)), h) := by
  refine (p_aload rfl rfl).trans ?_
  exact s_aret rfl
theorem e_J7_copyOf_2 {d : Nat} {a0 a2 : Nat} {x1 : Int32} {h : AH} : exec tTab (d + 1) K_J7_copyOf_2 [.ref a0, .int x1, .ref a2] h = R_J7_copyOf_2 d 0 [some (.ref a0), some (.int x1), some (.ref a2), none] [] h := exec_eq (cd := k_J7_copyOf_2) (hd := (fun _ _ => some none)) (L := 4) rfl rfl rfl
/-- java/util/Arrays.copyOf([BI)[B -/
abbrev K_J7_copyOf_3 : Nat := 257
noncomputable def R_J7_copyOf_3 (d pc : Nat) (ls : ALs) (st : List Value) (h : AH) : Option (AOut × AH) := aR (exec tTab d) k_J7_copyOf_3 (fun _ _ => some none) (pc, ls, st, h)
theorem r_J7_copyOf_3_0 {d : Nat} {x1 : Int32} {a0 : Nat} {l2 : Option Value} {h : AH} : R_J7_copyOf_3 d 0 [some (.ref a0), some (.int (x1)), l2] [] h = (hal h a0).bind fun v => R_J7_copyOf_3 d 3 [some (.ref a0), some (.int (x1)), l2] [.int (nI v), .int (x1)] h := by
  refine (p_iload rfl rfl).trans ?_
  refine (p_aload rfl rfl).trans ?_
  exact s_alen rfl
theorem r_J7_copyOf_3_3 {d : Nat} {s0 s1 : Int32} {l0 l1 l2 : Option Value} {h : AH} : R_J7_copyOf_3 d 3 [l0, l1, l2] [.int (s1), .int (s0)] h = if ¬ s0 = s1 then R_J7_copyOf_3 d 14 [l0, l1, l2] [] h else R_J7_copyOf_3 d 6 [l0, l1, l2] [] h := (s_icmp (g := (fun x y => decide (¬ x = y))) (t := 14) (nx := 6) rfl).trans bif_dec
theorem r_J7_copyOf_3_14 {d : Nat} {x1 : Int32} {l0 l2 : Option Value} {h : AH} : R_J7_copyOf_3 d 14 [l0, some (.int (x1)), l2] [] h = bif hin x1 65537 then R_J7_copyOf_3 d 17 [l0, some (.int (x1)), l2] [.ref h.2.1] (hnew h (true, .inl (1, (x1).toNatClampNeg, (.inl (fun _ => 0)))) (x1).toNatClampNeg) else none := by
  refine (p_iload rfl rfl).trans ?_
  exact s_newa (t := 1) (z := (.inl (fun _ => 0))) rfl
theorem r_J7_copyOf_3_6 {d : Nat} {a0 : Nat} {l1 l2 : Option Value} {h : AH} : R_J7_copyOf_3 d 6 [some (.ref a0), l1, l2] [] h = (hclB h a0).bind fun h1 => R_J7_copyOf_3 d 10 [some (.ref a0), l1, l2] [.ref h.2.1] h1 := by
  refine (p_aload rfl rfl).trans ?_
  exact s_cloneB rfl rfl
theorem r_J7_copyOf_3_17 {d : Nat} {b0 a0 : Nat} {l1 l2 : Option Value} {h : AH} : R_J7_copyOf_3 d 17 [some (.ref a0), l1, l2] [.ref b0] h = (hal h a0).bind fun v => R_J7_copyOf_3 d 24 [some (.ref a0), l1, some (.ref b0)] [.int (nI v), .int ((nI 0)), .ref b0, .int ((nI 0)), .ref a0] h := by
  refine (p_astore rfl rfl rfl).trans ?_
  refine (p_aload rfl rfl).trans ?_
  refine (p_const rfl).trans ?_
  refine (p_aload rfl rfl).trans ?_
  refine (p_const rfl).trans ?_
  refine (p_aload rfl rfl).trans ?_
  exact s_alen rfl
theorem r_J7_copyOf_3_17N {d : Nat} {a0 : Nat} {l1 l2 : Option Value} {h : AH} : R_J7_copyOf_3 d 17 [some (.ref a0), l1, l2] [.null] h = (hal h a0).bind fun v => R_J7_copyOf_3 d 24 [some (.ref a0), l1, some (.null)] [.int (nI v), .int ((nI 0)), .null, .int ((nI 0)), .ref a0] h := by
  refine (p_astoreN rfl rfl rfl).trans ?_
  refine (p_aload rfl rfl).trans ?_
  refine (p_const rfl).trans ?_
  refine (p_aloadN rfl rfl).trans ?_
  refine (p_const rfl).trans ?_
  refine (p_aload rfl rfl).trans ?_
  exact s_alen rfl
theorem r_J7_copyOf_3_10 {d : Nat} {b0 : Nat} {l0 l1 l2 : Option Value} {h : AH} : R_J7_copyOf_3 d 10 [l0, l1, l2] [.ref b0] h = bif hck h [] [1] b0 then R_J7_copyOf_3 d 13 [l0, l1, l2] [.ref b0] h else none := s_cast rfl
theorem r_J7_copyOf_3_10N {d : Nat} {l0 l1 l2 : Option Value} {h : AH} : R_J7_copyOf_3 d 10 [l0, l1, l2] [.null] h = some (.inl (some (.null)), h) := by
  refine (p_castN rfl).trans ?_
  exact s_aretN rfl
theorem r_J7_copyOf_3_24 {d : Nat} {b0 b2 : Nat} {s1 s3 s4 x1 : Int32} {l0 l2 : Option Value} {h : AH} : R_J7_copyOf_3 d 24 [l0, some (.int (x1)), l2] [.int (s4), .int (s3), .ref b2, .int (s1), .ref b0] h = (hcpy h anyC anyT b0 b2 s1 s3 (if x1 < s4 then x1 else s4)).bind fun h1 => R_J7_copyOf_3 d 31 [l0, some (.int (x1)), l2] [] h1 := by
  refine (p_iload rfl rfl).trans ?_
  refine (s_mth rfl rfl).trans ?_
  exact s_copy rfl rfl
theorem r_J7_copyOf_3_13 {d : Nat} {b0 : Nat} {l0 l1 l2 : Option Value} {h : AH} : R_J7_copyOf_3 d 13 [l0, l1, l2] [.ref b0] h = some (.inl (some (.ref b0)), h) := s_aret rfl
theorem r_J7_copyOf_3_13N {d : Nat} {l0 l1 l2 : Option Value} {h : AH} : R_J7_copyOf_3 d 13 [l0, l1, l2] [.null] h = some (.inl (some (.null)), h) := s_aretN rfl
theorem r_J7_copyOf_3_31 {d : Nat} {a2 : Nat} {l0 l1 : Option Value} {h : AH} : R_J7_copyOf_3 d 31 [l0, l1, some (.ref a2)] [] h = some (.inl (some (.ref a2)), h) := by
  refine (p_aload rfl rfl).trans ?_
  exact s_aret rfl
theorem e_J7_copyOf_3 {d : Nat} {a0 : Nat} {x1 : Int32} {h : AH} : exec tTab (d + 1) K_J7_copyOf_3 [.ref a0, .int x1] h = R_J7_copyOf_3 d 0 [some (.ref a0), some (.int x1), none] [] h := exec_eq (cd := k_J7_copyOf_3) (hd := (fun _ _ => some none)) (L := 3) rfl rfl rfl
/-- java/util/Arrays.copyOfRange([BII)[B -/
abbrev K_J7_copyOfRange : Nat := 258
noncomputable def R_J7_copyOfRange (d pc : Nat) (ls : ALs) (st : List Value) (h : AH) : Option (AOut × AH) := aR (exec tTab d) k_J7_copyOfRange (fun _ _ => some none) (pc, ls, st, h)
theorem r_J7_copyOfRange_0 {d : Nat} {x1 : Int32} {l0 l2 : Option Value} {h : AH} : R_J7_copyOfRange d 0 [l0, some (.int (x1)), l2] [] h = if ¬ x1 = 0 then R_J7_copyOfRange d 10 [l0, some (.int (x1)), l2] [] h else R_J7_copyOfRange d 4 [l0, some (.int (x1)), l2] [] h := by
  refine (p_iload rfl rfl).trans ?_
  exact (s_if (g := (fun x => decide (¬ x = 0))) (t := 10) (nx := 4) rfl).trans bif_dec
theorem r_J7_copyOfRange_10 {d : Nat} {a0 : Nat} {x1 x2 : Int32} {h : AH} : R_J7_copyOfRange d 10 [some (.ref a0), some (.int (x1)), some (.int (x2))] [] h = aK (exec tTab d 259 [.ref a0, .int (x1), .int (x2)] h) (fun v h1 => R_J7_copyOfRange d 16 [some (.ref a0), some (.int (x1)), some (.int (x2))] (v.toList ++ []) h1) (fun E h1 => some (.inr E, h1)) := by
  refine (p_aload rfl rfl).trans ?_
  refine (p_iload rfl rfl).trans ?_
  refine (p_iload rfl rfl).trans ?_
  exact s_callS (y := 259) (n := 3) rfl rfl
theorem r_J7_copyOfRange_4 {d : Nat} {x2 : Int32} {a0 : Nat} {l1 : Option Value} {h : AH} : R_J7_copyOfRange d 4 [some (.ref a0), l1, some (.int (x2))] [] h = (hal h a0).bind fun v => R_J7_copyOfRange d 7 [some (.ref a0), l1, some (.int (x2))] [.int (nI v), .int (x2)] h := by
  refine (p_iload rfl rfl).trans ?_
  refine (p_aload rfl rfl).trans ?_
  exact s_alen rfl
theorem r_J7_copyOfRange_16 {d : Nat} {b0 : Nat} {l0 l1 l2 : Option Value} {h : AH} : R_J7_copyOfRange d 16 [l0, l1, l2] [.ref b0] h = some (.inl (some (.ref b0)), h) := s_aret rfl
theorem r_J7_copyOfRange_16N {d : Nat} {l0 l1 l2 : Option Value} {h : AH} : R_J7_copyOfRange d 16 [l0, l1, l2] [.null] h = some (.inl (some (.null)), h) := s_aretN rfl
theorem r_J7_copyOfRange_7 {d : Nat} {s0 s1 : Int32} {l0 l1 l2 : Option Value} {h : AH} : R_J7_copyOfRange d 7 [l0, l1, l2] [.int (s1), .int (s0)] h = if s0 = s1 then R_J7_copyOfRange d 17 [l0, l1, l2] [] h else R_J7_copyOfRange d 10 [l0, l1, l2] [] h := (s_icmp (g := (fun x y => decide (x = y))) (t := 17) (nx := 10) rfl).trans bif_dec
theorem r_J7_copyOfRange_17 {d : Nat} {a0 : Nat} {l1 l2 : Option Value} {h : AH} : R_J7_copyOfRange d 17 [some (.ref a0), l1, l2] [] h = (hclB h a0).bind fun h1 => R_J7_copyOfRange d 21 [some (.ref a0), l1, l2] [.ref h.2.1] h1 := by
  refine (p_aload rfl rfl).trans ?_
  exact s_cloneB rfl rfl
theorem r_J7_copyOfRange_21 {d : Nat} {b0 : Nat} {l0 l1 l2 : Option Value} {h : AH} : R_J7_copyOfRange d 21 [l0, l1, l2] [.ref b0] h = bif hck h [] [1] b0 then R_J7_copyOfRange d 24 [l0, l1, l2] [.ref b0] h else none := s_cast rfl
theorem r_J7_copyOfRange_21N {d : Nat} {l0 l1 l2 : Option Value} {h : AH} : R_J7_copyOfRange d 21 [l0, l1, l2] [.null] h = some (.inl (some (.null)), h) := by
  refine (p_castN rfl).trans ?_
  exact s_aretN rfl
theorem r_J7_copyOfRange_24 {d : Nat} {b0 : Nat} {l0 l1 l2 : Option Value} {h : AH} : R_J7_copyOfRange d 24 [l0, l1, l2] [.ref b0] h = some (.inl (some (.ref b0)), h) := s_aret rfl
theorem r_J7_copyOfRange_24N {d : Nat} {l0 l1 l2 : Option Value} {h : AH} : R_J7_copyOfRange d 24 [l0, l1, l2] [.null] h = some (.inl (some (.null)), h) := s_aretN rfl
theorem e_J7_copyOfRange {d : Nat} {a0 : Nat} {x1 x2 : Int32} {h : AH} : exec tTab (d + 1) K_J7_copyOfRange [.ref a0, .int x1, .int x2] h = R_J7_copyOfRange d 0 [some (.ref a0), some (.int x1), some (.int x2)] [] h := exec_eq (cd := k_J7_copyOfRange) (hd := (fun _ _ => some none)) (L := 3) rfl rfl rfl
/-- java/util/Arrays.copyOfRangeByte([BII)[B -/
abbrev K_J7_copyOfRangeByte : Nat := 259
noncomputable def R_J7_copyOfRangeByte (d pc : Nat) (ls : ALs) (st : List Value) (h : AH) : Option (AOut × AH) := aR (exec tTab d) k_J7_copyOfRangeByte (fun _ _ => some none) (pc, ls, st, h)
theorem r_J7_copyOfRangeByte_0 {d : Nat} {x1 x2 : Int32} {l0 l3 l4 : Option Value} {h : AH} : R_J7_copyOfRangeByte d 0 [l0, some (.int (x1)), some (.int (x2)), l3, l4] [] h = aK (exec tTab d 260 [.int (x1), .int (x2)] h) (fun v h1 => R_J7_copyOfRangeByte d 5 [l0, some (.int (x1)), some (.int (x2)), l3, l4] (v.toList ++ []) h1) (fun E h1 => some (.inr E, h1)) := by
  refine (p_iload rfl rfl).trans ?_
  refine (p_iload rfl rfl).trans ?_
  exact s_callS (y := 260) (n := 2) rfl rfl
theorem r_J7_copyOfRangeByte_5 {d : Nat} {x2 x1 : Int32} {l0 l3 l4 : Option Value} {h : AH} : R_J7_copyOfRangeByte d 5 [l0, some (.int (x1)), some (.int (x2)), l3, l4] [] h = bif hin (x2 - x1) 65537 then R_J7_copyOfRangeByte d 12 [l0, some (.int (x1)), some (.int (x2)), some (.int (x2 - x1)), l4] [.ref h.2.1] (hnew h (true, .inl (1, (x2 - x1).toNatClampNeg, (.inl (fun _ => 0)))) (x2 - x1).toNatClampNeg) else none := by
  refine (p_iload rfl rfl).trans ?_
  refine (p_iload rfl rfl).trans ?_
  refine (p_bin rfl).trans ?_
  refine (p_istore rfl rfl rfl).trans ?_
  refine (p_iload rfl rfl).trans ?_
  exact s_newa (t := 1) (z := (.inl (fun _ => 0))) rfl
theorem r_J7_copyOfRangeByte_12 {d : Nat} {b0 a0 : Nat} {x1 : Int32} {l2 l3 l4 : Option Value} {h : AH} : R_J7_copyOfRangeByte d 12 [some (.ref a0), some (.int (x1)), l2, l3, l4] [.ref b0] h = (hal h a0).bind fun v => R_J7_copyOfRangeByte d 21 [some (.ref a0), some (.int (x1)), l2, l3, some (.ref b0)] [.int (nI v), .int ((nI 0)), .ref b0, .int (x1), .ref a0] h := by
  refine (p_astore rfl rfl rfl).trans ?_
  refine (p_aload rfl rfl).trans ?_
  refine (p_iload rfl rfl).trans ?_
  refine (p_aload rfl rfl).trans ?_
  refine (p_const rfl).trans ?_
  refine (p_aload rfl rfl).trans ?_
  exact s_alen rfl
theorem r_J7_copyOfRangeByte_12N {d : Nat} {a0 : Nat} {x1 : Int32} {l2 l3 l4 : Option Value} {h : AH} : R_J7_copyOfRangeByte d 12 [some (.ref a0), some (.int (x1)), l2, l3, l4] [.null] h = (hal h a0).bind fun v => R_J7_copyOfRangeByte d 21 [some (.ref a0), some (.int (x1)), l2, l3, some (.null)] [.int (nI v), .int ((nI 0)), .null, .int (x1), .ref a0] h := by
  refine (p_astoreN rfl rfl rfl).trans ?_
  refine (p_aload rfl rfl).trans ?_
  refine (p_iload rfl rfl).trans ?_
  refine (p_aloadN rfl rfl).trans ?_
  refine (p_const rfl).trans ?_
  refine (p_aload rfl rfl).trans ?_
  exact s_alen rfl
theorem r_J7_copyOfRangeByte_21 {d : Nat} {b0 b2 : Nat} {s1 s3 s4 x1 x3 : Int32} {l0 l2 l4 : Option Value} {h : AH} : R_J7_copyOfRangeByte d 21 [l0, some (.int (x1)), l2, some (.int (x3)), l4] [.int (s4), .int (s3), .ref b2, .int (s1), .ref b0] h = (hcpy h anyC anyT b0 b2 s1 s3 (if x3 < (s4 - x1) then x3 else (s4 - x1))).bind fun h1 => R_J7_copyOfRangeByte d 30 [l0, some (.int (x1)), l2, some (.int (x3)), l4] [] h1 := by
  refine (p_iload rfl rfl).trans ?_
  refine (p_bin rfl).trans ?_
  refine (p_iload rfl rfl).trans ?_
  refine (s_mth rfl rfl).trans ?_
  exact s_copy rfl rfl
theorem r_J7_copyOfRangeByte_30 {d : Nat} {a4 : Nat} {l0 l1 l2 l3 : Option Value} {h : AH} : R_J7_copyOfRangeByte d 30 [l0, l1, l2, l3, some (.ref a4)] [] h = some (.inl (some (.ref a4)), h) := by
  refine (p_aload rfl rfl).trans ?_
  exact s_aret rfl
theorem e_J7_copyOfRangeByte {d : Nat} {a0 : Nat} {x1 x2 : Int32} {h : AH} : exec tTab (d + 1) K_J7_copyOfRangeByte [.ref a0, .int x1, .int x2] h = R_J7_copyOfRangeByte d 0 [some (.ref a0), some (.int x1), some (.int x2), none, none] [] h := exec_eq (cd := k_J7_copyOfRangeByte) (hd := (fun _ _ => some none)) (L := 5) rfl rfl rfl
/-- java/util/Arrays.checkLength(II)V -/
abbrev K_J7_checkLength : Nat := 260
noncomputable def R_J7_checkLength (d pc : Nat) (ls : ALs) (st : List Value) (h : AH) : Option (AOut × AH) := aR (exec tTab d) k_J7_checkLength (fun _ _ => some none) (pc, ls, st, h)
theorem r_J7_checkLength_0 {d : Nat} {x1 x0 : Int32} {h : AH} : R_J7_checkLength d 0 [some (.int (x0)), some (.int (x1))] [] h = if x0 ≤ x1 then R_J7_checkLength d 37 [some (.int (x0)), some (.int (x1))] [] h else R_J7_checkLength d 5 [some (.int (x0)), some (.int (x1))] [] h := by
  refine (p_iload rfl rfl).trans ?_
  refine (p_iload rfl rfl).trans ?_
  exact (s_icmp (g := (fun x y => decide (y ≤ x))) (t := 37) (nx := 5) rfl).trans bif_dec
theorem r_J7_checkLength_37 {d : Nat} {l0 l1 : Option Value} {h : AH} : R_J7_checkLength d 37 [l0, l1] [] h = some (.inl none, h) := s_vret rfl
theorem e_J7_checkLength {d : Nat} {x0 x1 : Int32} {h : AH} : exec tTab (d + 1) K_J7_checkLength [.int x0, .int x1] h = R_J7_checkLength d 0 [some (.int x0), some (.int x1)] [] h := exec_eq (cd := k_J7_checkLength) (hd := (fun _ _ => some none)) (L := 2) rfl rfl rfl
/-- java/util/Arrays.fill([II)V -/
abbrev K_J7_fill : Nat := 261
noncomputable def R_J7_fill (d pc : Nat) (ls : ALs) (st : List Value) (h : AH) : Option (AOut × AH) := aR (exec tTab d) k_J7_fill (fun _ _ => some none) (pc, ls, st, h)
theorem r_J7_fill_0 {d : Nat} {a0 : Nat} {l1 l2 l3 : Option Value} {h : AH} : R_J7_fill d 0 [some (.ref a0), l1, l2, l3] [] h = (hal h a0).bind fun v => R_J7_fill d 4 [some (.ref a0), l1, some (.int ((nI 0))), l3] [.int (nI v)] h := by
  refine (p_const rfl).trans ?_
  refine (p_istore rfl rfl rfl).trans ?_
  refine (p_aload rfl rfl).trans ?_
  exact s_alen rfl
theorem r_J7_fill_4 {d : Nat} {s0 : Int32} {l0 l1 l2 l3 : Option Value} {h : AH} : R_J7_fill d 4 [l0, l1, l2, l3] [.int (s0)] h = R_J7_fill d 5 [l0, l1, l2, some (.int (s0))] [] h := by
  refine (p_istore rfl rfl rfl).trans ?_
  exact rfl
theorem q_J7_fill_5 {d : Nat} {x2 x3 : Int32} {l0 l1 : Option Value} {h : AH} : R_J7_fill d 5 [l0, l1, some (.int (x2)), some (.int (x3))] [] h = if x3 ≤ x2 then R_J7_fill d 20 [l0, l1, some (.int (x2)), some (.int (x3))] [] h else R_J7_fill d 10 [l0, l1, some (.int (x2)), some (.int (x3))] [] h := by
  refine (p_iload rfl rfl).trans ?_
  refine (p_iload rfl rfl).trans ?_
  exact (s_icmp (g := (fun x y => decide (y ≤ x))) (t := 20) (nx := 10) rfl).trans bif_dec
theorem r_J7_fill_20 {d : Nat} {l0 l1 l2 l3 : Option Value} {h : AH} : R_J7_fill d 20 [l0, l1, l2, l3] [] h = some (.inl none, h) := s_vret rfl
theorem r_J7_fill_10 {d : Nat} {a0 : Nat} {x2 x1 : Int32} {l3 : Option Value} {h : AH} : R_J7_fill d 10 [some (.ref a0), some (.int (x1)), some (.int (x2)), l3] [] h = (hsi h 0 a0 x2 x1).bind fun h1 => R_J7_fill d 14 [some (.ref a0), some (.int (x1)), some (.int (x2)), l3] [] h1 := by
  refine (p_aload rfl rfl).trans ?_
  refine (p_iload rfl rfl).trans ?_
  refine (p_iload rfl rfl).trans ?_
  exact s_iast (t := 0) (nar := (fun y => y)) rfl
theorem r_J7_fill_14 {d : Nat} {x2 : Int32} {l0 l1 l3 : Option Value} {h : AH} : R_J7_fill d 14 [l0, l1, some (.int (x2)), l3] [] h = R_J7_fill d 5 [l0, l1, some (.int (x2 + (nI 1))), l3] [] h := by
  refine (p_iinc rfl rfl rfl).trans ?_
  refine (p_goto rfl).trans ?_
  exact rfl
theorem e_J7_fill {d : Nat} {a0 : Nat} {x1 : Int32} {h : AH} : exec tTab (d + 1) K_J7_fill [.ref a0, .int x1] h = R_J7_fill d 0 [some (.ref a0), some (.int x1), none, none] [] h := exec_eq (cd := k_J7_fill) (hd := (fun _ _ => some none)) (L := 4) rfl rfl rfl
/-- java/lang/AbstractStringBuilder.<init>(I)V -/
abbrev K_J8_init : Nat := 262
noncomputable def R_J8_init (d pc : Nat) (ls : ALs) (st : List Value) (h : AH) : Option (AOut × AH) := aR (exec tTab d) k_J8_init (fun _ _ => some none) (pc, ls, st, h)
theorem r_J8_init_0 {d : Nat} {a0 : Nat} {l1 : Option Value} {h : AH} : R_J8_init d 0 [some (.ref a0), l1] [] h = R_J8_init d 7 [some (.ref a0), l1] [h.2.2.2 4] h := by
  refine (p_aload rfl rfl).trans ?_
  refine (s_objI rfl rfl).trans ?_
  exact p_stat rfl
theorem r_J8_init_7 {d : Nat} {s0 : Int32} {l0 l1 : Option Value} {h : AH} : R_J8_init d 7 [l0, l1] [.int (s0)] h = if s0 = 0 then R_J8_init d 25 [l0, l1] [] h else R_J8_init d 10 [l0, l1] [] h := (s_if (g := (fun x => decide (x = 0))) (t := 25) (nx := 10) rfl).trans bif_dec
theorem r_J8_init_10 {d : Nat} {a0 : Nat} {x1 : Int32} {h : AH} : R_J8_init d 10 [some (.ref a0), some (.int (x1))] [] h = bif hin x1 65537 then R_J8_init d 14 [some (.ref a0), some (.int (x1))] [.ref h.2.1, .ref a0] (hnew h (true, .inl (1, (x1).toNatClampNeg, (.inl (fun _ => 0)))) (x1).toNatClampNeg) else none := by
  refine (p_aload rfl rfl).trans ?_
  refine (p_iload rfl rfl).trans ?_
  exact s_newa (t := 1) (z := (.inl (fun _ => 0))) rfl
theorem r_J8_init_14 {d : Nat} {b0 b1 : Nat} {l0 l1 : Option Value} {h : AH} : R_J8_init d 14 [l0, l1] [.ref b1, .ref b0] h = (hpf h [20] b0 0 (.ref b1)).bind fun h1 => R_J8_init d 17 [l0, l1] [] h1 := s_putT rfl rfl
theorem r_J8_init_14N {d : Nat} {b0 : Nat} {l0 l1 : Option Value} {h : AH} : R_J8_init d 14 [l0, l1] [.null, .ref b0] h = (hpf h [20] b0 0 (.null)).bind fun h1 => R_J8_init d 17 [l0, l1] [] h1 := s_putT rfl rfl
theorem r_J8_init_17 {d : Nat} {a0 : Nat} {l1 : Option Value} {h : AH} : R_J8_init d 17 [some (.ref a0), l1] [] h = bif vB (.int ((nI 0))) then (hpf h [20] a0 1 (.int ((nI 0)))).bind fun h1 => R_J8_init d 22 [some (.ref a0), l1] [] h1 else none := by
  refine (p_aload rfl rfl).trans ?_
  refine (p_const rfl).trans ?_
  exact s_putf rfl
theorem r_J8_init_22 {d : Nat} {l0 l1 : Option Value} {h : AH} : R_J8_init d 22 [l0, l1] [] h = some (.inl none, h) := by
  refine (p_goto rfl).trans ?_
  exact s_vret rfl
theorem e_J8_init {d : Nat} {a0 : Nat} {x1 : Int32} {h : AH} : exec tTab (d + 1) K_J8_init [.ref a0, .int x1] h = R_J8_init d 0 [some (.ref a0), some (.int x1)] [] h := exec_eq (cd := k_J8_init) (hd := (fun _ _ => some none)) (L := 2) rfl rfl rfl
/-- java/lang/AbstractStringBuilder.append(C)Ljava/lang/AbstractStringBuilder; -/
abbrev K_J8_append : Nat := 263
noncomputable def R_J8_append (d pc : Nat) (ls : ALs) (st : List Value) (h : AH) : Option (AOut × AH) := aR (exec tTab d) k_J8_append (fun _ _ => some none) (pc, ls, st, h)
theorem r_J8_append_0 {d : Nat} {a0 : Nat} {l1 : Option Value} {h : AH} : R_J8_append d 0 [some (.ref a0), l1] [] h = (hgf h [20] a0 3).bind fun v => R_J8_append d 5 [some (.ref a0), l1] [v, .ref a0] h := by
  refine (p_aload rfl rfl).trans ?_
  refine (p_aload rfl rfl).trans ?_
  exact s_getf rfl
theorem r_J8_append_5 {d : Nat} {b0 : Nat} {s1 : Int32} {l0 l1 : Option Value} {h : AH} : R_J8_append d 5 [l0, l1] [.int (s1), .ref b0] h = ((hci h b0).bind (lkN [(20, 264)])).bind fun y => aK (exec tTab d y [.ref b0, .int (s1 + (nI 1))] h) (fun v h1 => R_J8_append d 10 [l0, l1] (v.toList ++ []) h1) (fun E h1 => some (.inr E, h1)) := by
  refine (p_const rfl).trans ?_
  refine (p_bin rfl).trans ?_
  exact s_callV (L := [(20, 264)]) (n := 1) (b := b0) (rest := []) rfl rfl rfl
theorem r_J8_append_10 {d : Nat} {a0 : Nat} {l1 : Option Value} {h : AH} : R_J8_append d 10 [some (.ref a0), l1] [] h = ((hci h a0).bind (lkN [(20, 266)])).bind fun y => aK (exec tTab d y [.ref a0] h) (fun v h1 => R_J8_append d 14 [some (.ref a0), l1] (v.toList ++ []) h1) (fun E h1 => some (.inr E, h1)) := by
  refine (p_aload rfl rfl).trans ?_
  exact s_callV (L := [(20, 266)]) (n := 0) (b := a0) (rest := []) rfl rfl rfl
theorem r_J8_append_14 {d : Nat} {s0 : Int32} {l0 l1 : Option Value} {h : AH} : R_J8_append d 14 [l0, l1] [.int (s0)] h = if s0 = 0 then R_J8_append d 45 [l0, l1] [] h else R_J8_append d 17 [l0, l1] [] h := (s_if (g := (fun x => decide (x = 0))) (t := 45) (nx := 17) rfl).trans bif_dec
theorem r_J8_append_45 {d : Nat} {a0 : Nat} {l1 : Option Value} {h : AH} : R_J8_append d 45 [some (.ref a0), l1] [] h = ((hci h a0).bind (lkN [(20, 266)])).bind fun y => aK (exec tTab d y [.ref a0] h) (fun v h1 => R_J8_append d 49 [some (.ref a0), l1] (v.toList ++ []) h1) (fun E h1 => some (.inr E, h1)) := by
  refine (p_aload rfl rfl).trans ?_
  exact s_callV (L := [(20, 266)]) (n := 0) (b := a0) (rest := []) rfl rfl rfl
theorem r_J8_append_17 {d : Nat} {x1 : Int32} {l0 : Option Value} {h : AH} : R_J8_append d 17 [l0, some (.int (x1))] [] h = aK (exec tTab d 287 [.int (x1)] h) (fun v h1 => R_J8_append d 21 [l0, some (.int (x1))] (v.toList ++ []) h1) (fun E h1 => some (.inr E, h1)) := by
  refine (p_iload rfl rfl).trans ?_
  exact s_callS (y := 287) (n := 1) rfl rfl
theorem r_J8_append_49 {d : Nat} {s0 : Int32} {l0 l1 : Option Value} {h : AH} : R_J8_append d 49 [l0, l1] [.int (s0)] h = if s0 = 0 then R_J8_append d 56 [l0, l1] [] h else R_J8_append d 52 [l0, l1] [] h := (s_if (g := (fun x => decide (x = 0))) (t := 56) (nx := 52) rfl).trans bif_dec
theorem r_J8_append_21 {d : Nat} {s0 : Int32} {l0 l1 : Option Value} {h : AH} : R_J8_append d 21 [l0, l1] [.int (s0)] h = if s0 = 0 then R_J8_append d 45 [l0, l1] [] h else R_J8_append d 24 [l0, l1] [] h := (s_if (g := (fun x => decide (x = 0))) (t := 45) (nx := 24) rfl).trans bif_dec
theorem r_J8_append_56 {d : Nat} {a0 : Nat} {l1 : Option Value} {h : AH} : R_J8_append d 56 [some (.ref a0), l1] [] h = (hgf h [20] a0 0).bind fun v => R_J8_append d 60 [some (.ref a0), l1] [v] h := by
  refine (p_aload rfl rfl).trans ?_
  exact s_getf rfl
theorem r_J8_append_24 {d : Nat} {a0 : Nat} {l1 : Option Value} {h : AH} : R_J8_append d 24 [some (.ref a0), l1] [] h = (hgf h [20] a0 0).bind fun v => R_J8_append d 28 [some (.ref a0), l1] [v] h := by
  refine (p_aload rfl rfl).trans ?_
  exact s_getf rfl
theorem r_J8_append_60 {d : Nat} {b0 a0 : Nat} {l1 : Option Value} {h : AH} : R_J8_append d 60 [some (.ref a0), l1] [.ref b0] h = (hgf h [20] a0 3).bind fun v => R_J8_append d 65 [some (.ref a0), l1] [v, .ref a0, .ref b0] h := by
  refine (p_aload rfl rfl).trans ?_
  refine (p_dup rfl rfl).trans ?_
  exact s_getf rfl
theorem r_J8_append_60N {d : Nat} {a0 : Nat} {l1 : Option Value} {h : AH} : R_J8_append d 60 [some (.ref a0), l1] [.null] h = (hgf h [20] a0 3).bind fun v => R_J8_append d 65 [some (.ref a0), l1] [v, .ref a0, .null] h := by
  refine (p_aload rfl rfl).trans ?_
  refine (p_dup rfl rfl).trans ?_
  exact s_getf rfl
theorem r_J8_append_28 {d : Nat} {b0 a0 : Nat} {l1 : Option Value} {h : AH} : R_J8_append d 28 [some (.ref a0), l1] [.ref b0] h = (hgf h [20] a0 3).bind fun v => R_J8_append d 33 [some (.ref a0), l1] [v, .ref a0, .ref b0] h := by
  refine (p_aload rfl rfl).trans ?_
  refine (p_dup rfl rfl).trans ?_
  exact s_getf rfl
theorem r_J8_append_28N {d : Nat} {a0 : Nat} {l1 : Option Value} {h : AH} : R_J8_append d 28 [some (.ref a0), l1] [.null] h = (hgf h [20] a0 3).bind fun v => R_J8_append d 33 [some (.ref a0), l1] [v, .ref a0, .null] h := by
  refine (p_aload rfl rfl).trans ?_
  refine (p_dup rfl rfl).trans ?_
  exact s_getf rfl
theorem r_J8_append_65 {d : Nat} {b0 b1 : Nat} {s2 : Int32} {l0 l1 : Option Value} {h : AH} : R_J8_append d 65 [l0, l1] [.int (s2), .ref b1, .ref b0] h = (hpf h [20] b1 3 (.int (s2 + (nI 1)))).bind fun h1 => R_J8_append d 71 [l0, l1] [.int (s2), .ref b0] h1 := by
  refine (p_dupx1 rfl rfl).trans ?_
  refine (p_const rfl).trans ?_
  refine (p_bin rfl).trans ?_
  exact s_putT rfl rfl
theorem r_J8_append_33 {d : Nat} {b0 b1 : Nat} {s2 : Int32} {l0 l1 : Option Value} {h : AH} : R_J8_append d 33 [l0, l1] [.int (s2), .ref b1, .ref b0] h = (hpf h [20] b1 3 (.int (s2 + (nI 1)))).bind fun h1 => R_J8_append d 39 [l0, l1] [.int (s2), .ref b0] h1 := by
  refine (p_dupx1 rfl rfl).trans ?_
  refine (p_const rfl).trans ?_
  refine (p_bin rfl).trans ?_
  exact s_putT rfl rfl
theorem r_J8_append_39 {d : Nat} {b0 : Nat} {s1 x1 : Int32} {l0 : Option Value} {h : AH} : R_J8_append d 39 [l0, some (.int (x1))] [.int (s1), .ref b0] h = (hsi h 1 b0 s1 ((x1.toInt8.toInt32).toInt8.toInt32)).bind fun h1 => R_J8_append d 42 [l0, some (.int (x1))] [] h1 := by
  refine (p_iload rfl rfl).trans ?_
  refine (p_un rfl).trans ?_
  exact s_iast (t := 1) (nar := (fun y => y.toInt8.toInt32)) rfl
theorem r_J8_append_42 {d : Nat} {a0 : Nat} {l1 : Option Value} {h : AH} : R_J8_append d 42 [some (.ref a0), l1] [] h = some (.inl (some (.ref a0)), h) := by
  refine (p_goto rfl).trans ?_
  refine (p_aload rfl rfl).trans ?_
  exact s_aret rfl
theorem e_J8_append {d : Nat} {a0 : Nat} {x1 : Int32} {h : AH} : exec tTab (d + 1) K_J8_append [.ref a0, .int x1] h = R_J8_append d 0 [some (.ref a0), some (.int x1)] [] h := exec_eq (cd := k_J8_append) (hd := (fun _ _ => some none)) (L := 2) rfl rfl rfl
/-- java/lang/AbstractStringBuilder.ensureCapacityInternal(I)V -/
abbrev K_J8_ensureCapacityInternal : Nat := 264
noncomputable def R_J8_ensureCapacityInternal (d pc : Nat) (ls : ALs) (st : List Value) (h : AH) : Option (AOut × AH) := aR (exec tTab d) k_J8_ensureCapacityInternal (fun _ _ => some none) (pc, ls, st, h)
theorem r_J8_ensureCapacityInternal_0 {d : Nat} {a0 : Nat} {l1 l2 : Option Value} {h : AH} : R_J8_ensureCapacityInternal d 0 [some (.ref a0), l1, l2] [] h = (hgf h [20] a0 0).bind fun v => R_J8_ensureCapacityInternal d 4 [some (.ref a0), l1, l2] [v] h := by
  refine (p_aload rfl rfl).trans ?_
  exact s_getf rfl
theorem r_J8_ensureCapacityInternal_4 {d : Nat} {b0 : Nat} {l0 l1 l2 : Option Value} {h : AH} : R_J8_ensureCapacityInternal d 4 [l0, l1, l2] [.ref b0] h = (hal h b0).bind fun v => R_J8_ensureCapacityInternal d 5 [l0, l1, l2] [.int (nI v)] h := s_alen rfl
theorem r_J8_ensureCapacityInternal_5 {d : Nat} {s0 : Int32} {a0 : Nat} {l1 l2 : Option Value} {h : AH} : R_J8_ensureCapacityInternal d 5 [some (.ref a0), l1, l2] [.int (s0)] h = (hgf h [20] a0 1).bind fun v => R_J8_ensureCapacityInternal d 9 [some (.ref a0), l1, l2] [v, .int (s0)] h := by
  refine (p_aload rfl rfl).trans ?_
  exact s_getf rfl
theorem r_J8_ensureCapacityInternal_9 {d : Nat} {s0 s1 x1 : Int32} {l0 l2 : Option Value} {h : AH} : R_J8_ensureCapacityInternal d 9 [l0, some (.int (x1)), l2] [.int (s1), .int (s0)] h = if (x1 - (s0 >>> (s1 &&& 31))) ≤ 0 then R_J8_ensureCapacityInternal d 38 [l0, some (.int (x1)), some (.int (s0 >>> (s1 &&& 31)))] [] h else R_J8_ensureCapacityInternal d 17 [l0, some (.int (x1)), some (.int (s0 >>> (s1 &&& 31)))] [] h := by
  refine (p_bin rfl).trans ?_
  refine (p_istore rfl rfl rfl).trans ?_
  refine (p_iload rfl rfl).trans ?_
  refine (p_iload rfl rfl).trans ?_
  refine (p_bin rfl).trans ?_
  exact (s_if (g := (fun x => decide (x ≤ 0))) (t := 38) (nx := 17) rfl).trans bif_dec
theorem r_J8_ensureCapacityInternal_38 {d : Nat} {l0 l1 l2 : Option Value} {h : AH} : R_J8_ensureCapacityInternal d 38 [l0, l1, l2] [] h = some (.inl none, h) := s_vret rfl
theorem r_J8_ensureCapacityInternal_17 {d : Nat} {a0 : Nat} {l1 l2 : Option Value} {h : AH} : R_J8_ensureCapacityInternal d 17 [some (.ref a0), l1, l2] [] h = (hgf h [20] a0 0).bind fun v => R_J8_ensureCapacityInternal d 22 [some (.ref a0), l1, l2] [v, .ref a0] h := by
  refine (p_aload rfl rfl).trans ?_
  refine (p_aload rfl rfl).trans ?_
  exact s_getf rfl
theorem r_J8_ensureCapacityInternal_22 {d : Nat} {b0 b1 a0 : Nat} {x1 : Int32} {l2 : Option Value} {h : AH} : R_J8_ensureCapacityInternal d 22 [some (.ref a0), some (.int (x1)), l2] [.ref b1, .ref b0] h = ((hci h a0).bind (lkN [(20, 265)])).bind fun y => aK (exec tTab d y [.ref a0, .int (x1)] h) (fun v h1 => R_J8_ensureCapacityInternal d 27 [some (.ref a0), some (.int (x1)), l2] (v.toList ++ [.ref b1, .ref b0]) h1) (fun E h1 => some (.inr E, h1)) := by
  refine (p_aload rfl rfl).trans ?_
  refine (p_iload rfl rfl).trans ?_
  exact s_callV (L := [(20, 265)]) (n := 1) (b := a0) (rest := [.ref b1, .ref b0]) rfl rfl rfl
theorem r_J8_ensureCapacityInternal_22N {d : Nat} {b0 a0 : Nat} {x1 : Int32} {l2 : Option Value} {h : AH} : R_J8_ensureCapacityInternal d 22 [some (.ref a0), some (.int (x1)), l2] [.null, .ref b0] h = ((hci h a0).bind (lkN [(20, 265)])).bind fun y => aK (exec tTab d y [.ref a0, .int (x1)] h) (fun v h1 => R_J8_ensureCapacityInternal d 27 [some (.ref a0), some (.int (x1)), l2] (v.toList ++ [.null, .ref b0]) h1) (fun E h1 => some (.inr E, h1)) := by
  refine (p_aload rfl rfl).trans ?_
  refine (p_iload rfl rfl).trans ?_
  exact s_callV (L := [(20, 265)]) (n := 1) (b := a0) (rest := [.null, .ref b0]) rfl rfl rfl
theorem r_J8_ensureCapacityInternal_27 {d : Nat} {b0 b1 a0 : Nat} {s2 : Int32} {l1 l2 : Option Value} {h : AH} : R_J8_ensureCapacityInternal d 27 [some (.ref a0), l1, l2] [.int (s2), .ref b1, .ref b0] h = (hgf h [20] a0 1).bind fun v => R_J8_ensureCapacityInternal d 31 [some (.ref a0), l1, l2] [v, .int (s2), .ref b1, .ref b0] h := by
  refine (p_aload rfl rfl).trans ?_
  exact s_getf rfl
theorem r_J8_ensureCapacityInternal_31 {d : Nat} {b0 b1 : Nat} {s2 s3 : Int32} {l0 l1 l2 : Option Value} {h : AH} : R_J8_ensureCapacityInternal d 31 [l0, l1, l2] [.int (s3), .int (s2), .ref b1, .ref b0] h = aK (exec tTab d 257 [.ref b1, .int (s2 <<< (s3 &&& 31))] h) (fun v h1 => R_J8_ensureCapacityInternal d 35 [l0, l1, l2] (v.toList ++ [.ref b0]) h1) (fun E h1 => some (.inr E, h1)) := by
  refine (p_bin rfl).trans ?_
  exact s_callS (y := 257) (n := 2) rfl rfl
theorem r_J8_ensureCapacityInternal_35 {d : Nat} {b0 b1 : Nat} {l0 l1 l2 : Option Value} {h : AH} : R_J8_ensureCapacityInternal d 35 [l0, l1, l2] [.ref b1, .ref b0] h = (hpf h [20] b0 0 (.ref b1)).bind fun h1 => R_J8_ensureCapacityInternal d 38 [l0, l1, l2] [] h1 := s_putT rfl rfl
theorem r_J8_ensureCapacityInternal_35N {d : Nat} {b0 : Nat} {l0 l1 l2 : Option Value} {h : AH} : R_J8_ensureCapacityInternal d 35 [l0, l1, l2] [.null, .ref b0] h = (hpf h [20] b0 0 (.null)).bind fun h1 => R_J8_ensureCapacityInternal d 38 [l0, l1, l2] [] h1 := s_putT rfl rfl
theorem e_J8_ensureCapacityInternal {d : Nat} {a0 : Nat} {x1 : Int32} {h : AH} : exec tTab (d + 1) K_J8_ensureCapacityInternal [.ref a0, .int x1] h = R_J8_ensureCapacityInternal d 0 [some (.ref a0), some (.int x1), none] [] h := exec_eq (cd := k_J8_ensureCapacityInternal) (hd := (fun _ _ => some none)) (L := 3) rfl rfl rfl
/-- java/lang/AbstractStringBuilder.newCapacity(I)I -/
abbrev K_J8_newCapacity : Nat := 265
noncomputable def R_J8_newCapacity (d pc : Nat) (ls : ALs) (st : List Value) (h : AH) : Option (AOut × AH) := aR (exec tTab d) k_J8_newCapacity (fun _ _ => some none) (pc, ls, st, h)
theorem r_J8_newCapacity_0 {d : Nat} {a0 : Nat} {l1 l2 l3 l4 l5 : Option Value} {h : AH} : R_J8_newCapacity d 0 [some (.ref a0), l1, l2, l3, l4, l5] [] h = (hgf h [20] a0 0).bind fun v => R_J8_newCapacity d 4 [some (.ref a0), l1, l2, l3, l4, l5] [v] h := by
  refine (p_aload rfl rfl).trans ?_
  exact s_getf rfl
theorem r_J8_newCapacity_4 {d : Nat} {b0 : Nat} {l0 l1 l2 l3 l4 l5 : Option Value} {h : AH} : R_J8_newCapacity d 4 [l0, l1, l2, l3, l4, l5] [.ref b0] h = (hal h b0).bind fun v => R_J8_newCapacity d 5 [l0, l1, l2, l3, l4, l5] [.int (nI v)] h := s_alen rfl
theorem r_J8_newCapacity_5 {d : Nat} {s0 x1 : Int32} {a0 : Nat} {l2 l3 l4 l5 : Option Value} {h : AH} : R_J8_newCapacity d 5 [some (.ref a0), some (.int (x1)), l2, l3, l4, l5] [.int (s0)] h = (hgf h [20] a0 1).bind fun v => R_J8_newCapacity d 11 [some (.ref a0), some (.int (x1)), some (.int (s0)), l3, l4, l5] [v, .int (x1)] h := by
  refine (p_istore rfl rfl rfl).trans ?_
  refine (p_iload rfl rfl).trans ?_
  refine (p_aload rfl rfl).trans ?_
  exact s_getf rfl
theorem r_J8_newCapacity_11 {d : Nat} {s0 s1 x2 : Int32} {a0 : Nat} {l1 l3 l4 l5 : Option Value} {h : AH} : R_J8_newCapacity d 11 [some (.ref a0), l1, some (.int (x2)), l3, l4, l5] [.int (s1), .int (s0)] h = (hgf h [20] a0 1).bind fun v => R_J8_newCapacity d 27 [some (.ref a0), l1, some (.int (x2)), some (.int (s0 <<< (s1 &&& 31))), some (.int ((s0 <<< (s1 &&& 31)) - x2)), l5] [v, .int ((nI 2)), .int (x2), .int ((s0 <<< (s1 &&& 31)) - x2), .int (x2)] h := by
  refine (p_bin rfl).trans ?_
  refine (p_istore rfl rfl rfl).trans ?_
  refine (p_iload rfl rfl).trans ?_
  refine (p_iload rfl rfl).trans ?_
  refine (p_bin rfl).trans ?_
  refine (p_istore rfl rfl rfl).trans ?_
  refine (p_iload rfl rfl).trans ?_
  refine (p_iload rfl rfl).trans ?_
  refine (p_iload rfl rfl).trans ?_
  refine (p_const rfl).trans ?_
  refine (p_aload rfl rfl).trans ?_
  exact s_getf rfl
theorem r_J8_newCapacity_27 {d : Nat} {s0 s1 s2 s3 s4 : Int32} {l0 l1 l2 l3 l4 l5 : Option Value} {h : AH} : R_J8_newCapacity d 27 [l0, l1, l2, l3, l4, l5] [.int (s4), .int (s3), .int (s2), .int (s1), .int (s0)] h = aK (exec tTab d 252 [.int (s0), .int (s1), .int (s2 + (s3 <<< (s4 &&& 31)))] h) (fun v h1 => R_J8_newCapacity d 32 [l0, l1, l2, l3, l4, l5] (v.toList ++ []) h1) (fun E h1 => some (.inr E, h1)) := by
  refine (p_bin rfl).trans ?_
  refine (p_bin rfl).trans ?_
  exact s_callS (y := 252) (n := 3) rfl rfl
theorem r_J8_newCapacity_32 {d : Nat} {s0 : Int32} {l0 l1 l2 l3 l4 l5 : Option Value} {h : AH} : R_J8_newCapacity d 32 [l0, l1, l2, l3, l4, l5] [.int (s0)] h = if ¬ s0 = (2147483647 : Int32) then R_J8_newCapacity d 51 [l0, l1, l2, l3, l4, some (.int (s0))] [] h else R_J8_newCapacity d 41 [l0, l1, l2, l3, l4, some (.int (s0))] [] h := by
  refine (p_istore rfl rfl rfl).trans ?_
  refine (p_iload rfl rfl).trans ?_
  refine (p_const rfl).trans ?_
  exact (s_icmp (g := (fun x y => decide (¬ x = y))) (t := 51) (nx := 41) rfl).trans bif_dec
theorem r_J8_newCapacity_51 {d : Nat} {x5 : Int32} {a0 : Nat} {l1 l2 l3 l4 : Option Value} {h : AH} : R_J8_newCapacity d 51 [some (.ref a0), l1, l2, l3, l4, some (.int (x5))] [] h = (hgf h [20] a0 1).bind fun v => R_J8_newCapacity d 57 [some (.ref a0), l1, l2, l3, l4, some (.int (x5))] [v, .int (x5)] h := by
  refine (p_iload rfl rfl).trans ?_
  refine (p_aload rfl rfl).trans ?_
  exact s_getf rfl
theorem r_J8_newCapacity_57 {d : Nat} {s0 s1 : Int32} {l0 l1 l2 l3 l4 l5 : Option Value} {h : AH} : R_J8_newCapacity d 57 [l0, l1, l2, l3, l4, l5] [.int (s1), .int (s0)] h = some (.inl (some (.int (s0 >>> (s1 &&& 31)))), h) := by
  refine (p_bin rfl).trans ?_
  exact s_iretT rfl rfl
theorem e_J8_newCapacity {d : Nat} {a0 : Nat} {x1 : Int32} {h : AH} : exec tTab (d + 1) K_J8_newCapacity [.ref a0, .int x1] h = R_J8_newCapacity d 0 [some (.ref a0), some (.int x1), none, none, none, none] [] h := exec_eq (cd := k_J8_newCapacity) (hd := (fun _ _ => some none)) (L := 6) rfl rfl rfl
/-- java/lang/AbstractStringBuilder.isLatin1()Z -/
abbrev K_J8_isLatin1 : Nat := 266
noncomputable def R_J8_isLatin1 (d pc : Nat) (ls : ALs) (st : List Value) (h : AH) : Option (AOut × AH) := aR (exec tTab d) k_J8_isLatin1 (fun _ _ => some none) (pc, ls, st, h)
theorem r_J8_isLatin1_0 {d : Nat} {l0 : Option Value} {h : AH} : R_J8_isLatin1 d 0 [l0] [] h = R_J8_isLatin1 d 3 [l0] [h.2.2.2 4] h := p_stat rfl
theorem r_J8_isLatin1_3 {d : Nat} {s0 : Int32} {l0 : Option Value} {h : AH} : R_J8_isLatin1 d 3 [l0] [.int (s0)] h = if s0 = 0 then R_J8_isLatin1 d 17 [l0] [] h else R_J8_isLatin1 d 6 [l0] [] h := (s_if (g := (fun x => decide (x = 0))) (t := 17) (nx := 6) rfl).trans bif_dec
theorem r_J8_isLatin1_17 {d : Nat} {l0 : Option Value} {h : AH} : R_J8_isLatin1 d 17 [l0] [] h = some (.inl (some (.int ((nI 0)))), h) := by
  refine (p_const rfl).trans ?_
  exact s_iretT rfl rfl
theorem r_J8_isLatin1_6 {d : Nat} {a0 : Nat} {h : AH} : R_J8_isLatin1 d 6 [some (.ref a0)] [] h = (hgf h [20] a0 1).bind fun v => R_J8_isLatin1 d 10 [some (.ref a0)] [v] h := by
  refine (p_aload rfl rfl).trans ?_
  exact s_getf rfl
theorem r_J8_isLatin1_10 {d : Nat} {s0 : Int32} {l0 : Option Value} {h : AH} : R_J8_isLatin1 d 10 [l0] [.int (s0)] h = if ¬ s0 = 0 then R_J8_isLatin1 d 17 [l0] [] h else R_J8_isLatin1 d 13 [l0] [] h := (s_if (g := (fun x => decide (¬ x = 0))) (t := 17) (nx := 13) rfl).trans bif_dec
theorem r_J8_isLatin1_13 {d : Nat} {l0 : Option Value} {h : AH} : R_J8_isLatin1 d 13 [l0] [] h = some (.inl (some (.int ((nI 1)))), h) := by
  refine (p_const rfl).trans ?_
  refine (p_goto rfl).trans ?_
  exact s_iretT rfl rfl
theorem e_J8_isLatin1 {d : Nat} {a0 : Nat} {h : AH} : exec tTab (d + 1) K_J8_isLatin1 [.ref a0] h = R_J8_isLatin1 d 0 [some (.ref a0)] [] h := exec_eq (cd := k_J8_isLatin1) (hd := (fun _ _ => some none)) (L := 1) rfl rfl rfl
/-- java/lang/AbstractStringBuilder.getValue()[B -/
abbrev K_J8_getValue : Nat := 268
noncomputable def R_J8_getValue (d pc : Nat) (ls : ALs) (st : List Value) (h : AH) : Option (AOut × AH) := aR (exec tTab d) k_J8_getValue (fun _ _ => some none) (pc, ls, st, h)
theorem r_J8_getValue_0 {d : Nat} {a0 : Nat} {h : AH} : R_J8_getValue d 0 [some (.ref a0)] [] h = (hgf h [20] a0 0).bind fun v => R_J8_getValue d 4 [some (.ref a0)] [v] h := by
  refine (p_aload rfl rfl).trans ?_
  exact s_getf rfl
theorem r_J8_getValue_4 {d : Nat} {b0 : Nat} {l0 : Option Value} {h : AH} : R_J8_getValue d 4 [l0] [.ref b0] h = some (.inl (some (.ref b0)), h) := s_aret rfl
theorem r_J8_getValue_4N {d : Nat} {l0 : Option Value} {h : AH} : R_J8_getValue d 4 [l0] [.null] h = some (.inl (some (.null)), h) := s_aretN rfl
theorem e_J8_getValue {d : Nat} {a0 : Nat} {h : AH} : exec tTab (d + 1) K_J8_getValue [.ref a0] h = R_J8_getValue d 0 [some (.ref a0)] [] h := exec_eq (cd := k_J8_getValue) (hd := (fun _ _ => some none)) (L := 1) rfl rfl rfl
/-- java/lang/AbstractStringBuilder.length()I -/
abbrev K_J8_length : Nat := 269
noncomputable def R_J8_length (d pc : Nat) (ls : ALs) (st : List Value) (h : AH) : Option (AOut × AH) := aR (exec tTab d) k_J8_length (fun _ _ => some none) (pc, ls, st, h)
theorem r_J8_length_0 {d : Nat} {a0 : Nat} {h : AH} : R_J8_length d 0 [some (.ref a0)] [] h = (hgf h [20] a0 3).bind fun v => R_J8_length d 4 [some (.ref a0)] [v] h := by
  refine (p_aload rfl rfl).trans ?_
  exact s_getf rfl
theorem r_J8_length_4 {d : Nat} {s0 : Int32} {l0 : Option Value} {h : AH} : R_J8_length d 4 [l0] [.int (s0)] h = some (.inl (some (.int (s0))), h) := s_iretT rfl rfl
theorem e_J8_length {d : Nat} {a0 : Nat} {h : AH} : exec tTab (d + 1) K_J8_length [.ref a0] h = R_J8_length d 0 [some (.ref a0)] [] h := exec_eq (cd := k_J8_length) (hd := (fun _ _ => some none)) (L := 1) rfl rfl rfl
/-- java/lang/StringBuilder.<init>()V -/
abbrev K_J9_init : Nat := 273
noncomputable def R_J9_init (d pc : Nat) (ls : ALs) (st : List Value) (h : AH) : Option (AOut × AH) := aR (exec tTab d) k_J9_init (fun _ _ => some none) (pc, ls, st, h)
theorem r_J9_init_0 {d : Nat} {a0 : Nat} {h : AH} : R_J9_init d 0 [some (.ref a0)] [] h = aK (exec tTab d 262 [.ref a0, .int ((nI 16))] h) (fun v h1 => R_J9_init d 6 [some (.ref a0)] (v.toList ++ []) h1) (fun E h1 => some (.inr E, h1)) := by
  refine (p_aload rfl rfl).trans ?_
  refine (p_const rfl).trans ?_
  exact s_callI (y := 262) (n := 1) (b := a0) (rest := []) rfl rfl rfl
theorem r_J9_init_6 {d : Nat} {l0 : Option Value} {h : AH} : R_J9_init d 6 [l0] [] h = some (.inl none, h) := s_vret rfl
theorem e_J9_init {d : Nat} {a0 : Nat} {h : AH} : exec tTab (d + 1) K_J9_init [.ref a0] h = R_J9_init d 0 [some (.ref a0)] [] h := exec_eq (cd := k_J9_init) (hd := (fun _ _ => some none)) (L := 1) rfl rfl rfl
/-- java/lang/StringBuilder.append(C)Ljava/lang/StringBuilder; -/
abbrev K_J9_append : Nat := 274
noncomputable def R_J9_append (d pc : Nat) (ls : ALs) (st : List Value) (h : AH) : Option (AOut × AH) := aR (exec tTab d) k_J9_append (fun _ _ => some none) (pc, ls, st, h)
theorem r_J9_append_0 {d : Nat} {a0 : Nat} {x1 : Int32} {h : AH} : R_J9_append d 0 [some (.ref a0), some (.int (x1))] [] h = ((hci h a0).bind (lkN [(20, 263)])).bind fun y => aK (exec tTab d y [.ref a0, .int (x1)] h) (fun v h1 => R_J9_append d 5 [some (.ref a0), some (.int (x1))] (v.toList ++ []) h1) (fun E h1 => some (.inr E, h1)) := by
  refine (p_aload rfl rfl).trans ?_
  refine (p_iload rfl rfl).trans ?_
  exact s_callV (L := [(20, 263)]) (n := 1) (b := a0) (rest := []) rfl rfl rfl
theorem r_J9_append_5 {d : Nat} {b0 a0 : Nat} {l1 : Option Value} {h : AH} : R_J9_append d 5 [some (.ref a0), l1] [.ref b0] h = some (.inl (some (.ref a0)), h) := by
  refine (p_pop rfl rfl).trans ?_
  refine (p_aload rfl rfl).trans ?_
  exact s_aret rfl
theorem r_J9_append_5N {d : Nat} {a0 : Nat} {l1 : Option Value} {h : AH} : R_J9_append d 5 [some (.ref a0), l1] [.null] h = some (.inl (some (.ref a0)), h) := by
  refine (p_pop rfl rfl).trans ?_
  refine (p_aload rfl rfl).trans ?_
  exact s_aret rfl
theorem e_J9_append {d : Nat} {a0 : Nat} {x1 : Int32} {h : AH} : exec tTab (d + 1) K_J9_append [.ref a0, .int x1] h = R_J9_append d 0 [some (.ref a0), some (.int x1)] [] h := exec_eq (cd := k_J9_append) (hd := (fun _ _ => some none)) (L := 2) rfl rfl rfl
/-- java/lang/StringBuilder.toString()Ljava/lang/String; -/
abbrev K_J9_toString : Nat := 275
noncomputable def R_J9_toString (d pc : Nat) (ls : ALs) (st : List Value) (h : AH) : Option (AOut × AH) := aR (exec tTab d) k_J9_toString (fun _ _ => some none) (pc, ls, st, h)
theorem r_J9_toString_0 {d : Nat} {l0 : Option Value} {h : AH} : R_J9_toString d 0 [l0] [] h = R_J9_toString d 3 [l0] [.ref h.2.1] (hnew h (true, .inr (21, [.null, .int 0, .int 0, .int 0])) 4) := p_new rfl
theorem r_J9_toString_3 {d : Nat} {b0 a0 : Nat} {h : AH} : R_J9_toString d 3 [some (.ref a0)] [.ref b0] h = aK (exec tTab d 278 [.ref b0, .ref a0] h) (fun v h1 => R_J9_toString d 8 [some (.ref a0)] (v.toList ++ [.ref b0]) h1) (fun E h1 => some (.inr E, h1)) := by
  refine (p_dup rfl rfl).trans ?_
  refine (p_aload rfl rfl).trans ?_
  exact s_callI (y := 278) (n := 1) (b := b0) (rest := [.ref b0]) rfl rfl rfl
theorem r_J9_toString_8 {d : Nat} {b0 : Nat} {l0 : Option Value} {h : AH} : R_J9_toString d 8 [l0] [.ref b0] h = some (.inl (some (.ref b0)), h) := s_aret rfl
theorem r_J9_toString_8N {d : Nat} {l0 : Option Value} {h : AH} : R_J9_toString d 8 [l0] [.null] h = some (.inl (some (.null)), h) := s_aretN rfl
theorem e_J9_toString {d : Nat} {a0 : Nat} {h : AH} : exec tTab (d + 1) K_J9_toString [.ref a0] h = R_J9_toString d 0 [some (.ref a0)] [] h := exec_eq (cd := k_J9_toString) (hd := (fun _ _ => some none)) (L := 1) rfl rfl rfl
/-- java/lang/StringBuilder.length()I -/
abbrev K_J9_length : Nat := 276
noncomputable def R_J9_length (d pc : Nat) (ls : ALs) (st : List Value) (h : AH) : Option (AOut × AH) := aR (exec tTab d) k_J9_length (fun _ _ => some none) (pc, ls, st, h)
theorem r_J9_length_0 {d : Nat} {a0 : Nat} {h : AH} : R_J9_length d 0 [some (.ref a0)] [] h = ((hci h a0).bind (lkN [(20, 269)])).bind fun y => aK (exec tTab d y [.ref a0] h) (fun v h1 => R_J9_length d 4 [some (.ref a0)] (v.toList ++ []) h1) (fun E h1 => some (.inr E, h1)) := by
  refine (p_aload rfl rfl).trans ?_
  exact s_callV (L := [(20, 269)]) (n := 0) (b := a0) (rest := []) rfl rfl rfl
theorem r_J9_length_4 {d : Nat} {s0 : Int32} {l0 : Option Value} {h : AH} : R_J9_length d 4 [l0] [.int (s0)] h = some (.inl (some (.int (s0))), h) := s_iretT rfl rfl
theorem e_J9_length {d : Nat} {a0 : Nat} {h : AH} : exec tTab (d + 1) K_J9_length [.ref a0] h = R_J9_length d 0 [some (.ref a0)] [] h := exec_eq (cd := k_J9_length) (hd := (fun _ _ => some none)) (L := 1) rfl rfl rfl
/-- java/lang/String.checkIndex(II)V -/
abbrev K_J10_checkIndex : Nat := 277
noncomputable def R_J10_checkIndex (d pc : Nat) (ls : ALs) (st : List Value) (h : AH) : Option (AOut × AH) := aR (exec tTab d) k_J10_checkIndex (fun _ _ => some none) (pc, ls, st, h)
theorem r_J10_checkIndex_0 {d : Nat} {x0 x1 : Int32} {h : AH} : R_J10_checkIndex d 0 [some (.int (x0)), some (.int (x1))] [] h = R_J10_checkIndex d 5 [some (.int (x0)), some (.int (x1))] [h.2.2.2 9, .int (x1), .int (x0)] h := by
  refine (p_iload rfl rfl).trans ?_
  refine (p_iload rfl rfl).trans ?_
  exact p_stat rfl
theorem r_J10_checkIndex_5 {d : Nat} {s0 s1 : Int32} {b2 : Nat} {l0 l1 : Option Value} {h : AH} : R_J10_checkIndex d 5 [l0, l1] [.ref b2, .int (s1), .int (s0)] h = aK (exec tTab d 241 [.int (s0), .int (s1), .ref b2] h) (fun v h1 => R_J10_checkIndex d 8 [l0, l1] (v.toList ++ []) h1) (fun E h1 => some (.inr E, h1)) := s_callS (y := 241) (n := 3) rfl rfl
theorem r_J10_checkIndex_5N {d : Nat} {s0 s1 : Int32} {l0 l1 : Option Value} {h : AH} : R_J10_checkIndex d 5 [l0, l1] [.null, .int (s1), .int (s0)] h = aK (exec tTab d 241 [.int (s0), .int (s1), .null] h) (fun v h1 => R_J10_checkIndex d 8 [l0, l1] (v.toList ++ []) h1) (fun E h1 => some (.inr E, h1)) := s_callS (y := 241) (n := 3) rfl rfl
theorem r_J10_checkIndex_8 {d : Nat} {s0 : Int32} {l0 l1 : Option Value} {h : AH} : R_J10_checkIndex d 8 [l0, l1] [.int (s0)] h = some (.inl none, h) := by
  refine (p_pop rfl rfl).trans ?_
  exact s_vret rfl
theorem e_J10_checkIndex {d : Nat} {x0 x1 : Int32} {h : AH} : exec tTab (d + 1) K_J10_checkIndex [.int x0, .int x1] h = R_J10_checkIndex d 0 [some (.int x0), some (.int x1)] [] h := exec_eq (cd := k_J10_checkIndex) (hd := (fun _ _ => some none)) (L := 2) rfl rfl rfl
/-- java/lang/String.<init>(Ljava/lang/StringBuilder;)V -/
abbrev K_J10_init : Nat := 278
noncomputable def R_J10_init (d pc : Nat) (ls : ALs) (st : List Value) (h : AH) : Option (AOut × AH) := aR (exec tTab d) k_J10_init (fun _ _ => some none) (pc, ls, st, h)
theorem r_J10_init_0 {d : Nat} {a0 a1 : Nat} {h : AH} : R_J10_init d 0 [some (.ref a0), some (.ref a1)] [] h = aK (exec tTab d 279 [.ref a0, .ref a1, .null] h) (fun v h1 => R_J10_init d 6 [some (.ref a0), some (.ref a1)] (v.toList ++ []) h1) (fun E h1 => some (.inr E, h1)) := by
  refine (p_aload rfl rfl).trans ?_
  refine (p_aload rfl rfl).trans ?_
  refine (p_const rfl).trans ?_
  exact s_callI (y := 279) (n := 2) (b := a0) (rest := []) rfl rfl rfl
theorem r_J10_init_6 {d : Nat} {l0 l1 : Option Value} {h : AH} : R_J10_init d 6 [l0, l1] [] h = some (.inl none, h) := s_vret rfl
theorem e_J10_init {d : Nat} {a0 a1 : Nat} {h : AH} : exec tTab (d + 1) K_J10_init [.ref a0, .ref a1] h = R_J10_init d 0 [some (.ref a0), some (.ref a1)] [] h := exec_eq (cd := k_J10_init) (hd := (fun _ _ => some none)) (L := 2) rfl rfl rfl
/-- java/lang/String.<init>(Ljava/lang/AbstractStringBuilder;Ljava/lang/Void;)V -/
abbrev K_J10_init_2 : Nat := 279
noncomputable def R_J10_init_2 (d pc : Nat) (ls : ALs) (st : List Value) (h : AH) : Option (AOut × AH) := aR (exec tTab d) k_J10_init_2 (fun _ _ => some none) (pc, ls, st, h)
theorem r_J10_init_2_0 {d : Nat} {a0 a1 : Nat} {l2 l3 l4 : Option Value} {h : AH} : R_J10_init_2 d 0 [some (.ref a0), some (.ref a1), l2, l3, l4] [] h = ((hci h a1).bind (lkN [(20, 268)])).bind fun y => aK (exec tTab d y [.ref a1] h) (fun v h1 => R_J10_init_2 d 8 [some (.ref a0), some (.ref a1), l2, l3, l4] (v.toList ++ []) h1) (fun E h1 => some (.inr E, h1)) := by
  refine (p_aload rfl rfl).trans ?_
  refine (s_objI rfl rfl).trans ?_
  refine (p_aload rfl rfl).trans ?_
  exact s_callV (L := [(20, 268)]) (n := 0) (b := a1) (rest := []) rfl rfl rfl
theorem r_J10_init_2_8 {d : Nat} {b0 a1 : Nat} {l0 l2 l3 l4 : Option Value} {h : AH} : R_J10_init_2 d 8 [l0, some (.ref a1), l2, l3, l4] [.ref b0] h = ((hci h a1).bind (lkN [(20, 276)])).bind fun y => aK (exec tTab d y [.ref a1] h) (fun v h1 => R_J10_init_2 d 13 [l0, some (.ref a1), l2, some (.ref b0), l4] (v.toList ++ []) h1) (fun E h1 => some (.inr E, h1)) := by
  refine (p_astore rfl rfl rfl).trans ?_
  refine (p_aload rfl rfl).trans ?_
  exact s_callV (L := [(20, 276)]) (n := 0) (b := a1) (rest := []) rfl rfl rfl
theorem r_J10_init_2_8N {d : Nat} {a1 : Nat} {l0 l2 l3 l4 : Option Value} {h : AH} : R_J10_init_2 d 8 [l0, some (.ref a1), l2, l3, l4] [.null] h = ((hci h a1).bind (lkN [(20, 276)])).bind fun y => aK (exec tTab d y [.ref a1] h) (fun v h1 => R_J10_init_2 d 13 [l0, some (.ref a1), l2, some (.null), l4] (v.toList ++ []) h1) (fun E h1 => some (.inr E, h1)) := by
  refine (p_astoreN rfl rfl rfl).trans ?_
  refine (p_aload rfl rfl).trans ?_
  exact s_callV (L := [(20, 276)]) (n := 0) (b := a1) (rest := []) rfl rfl rfl
theorem r_J10_init_2_13 {d : Nat} {s0 : Int32} {a1 : Nat} {l0 l2 l3 l4 : Option Value} {h : AH} : R_J10_init_2 d 13 [l0, some (.ref a1), l2, l3, l4] [.int (s0)] h = ((hci h a1).bind (lkN [(20, 266)])).bind fun y => aK (exec tTab d y [.ref a1] h) (fun v h1 => R_J10_init_2 d 19 [l0, some (.ref a1), l2, l3, some (.int (s0))] (v.toList ++ []) h1) (fun E h1 => some (.inr E, h1)) := by
  refine (p_istore rfl rfl rfl).trans ?_
  refine (p_aload rfl rfl).trans ?_
  exact s_callV (L := [(20, 266)]) (n := 0) (b := a1) (rest := []) rfl rfl rfl
theorem r_J10_init_2_19 {d : Nat} {s0 : Int32} {l0 l1 l2 l3 l4 : Option Value} {h : AH} : R_J10_init_2 d 19 [l0, l1, l2, l3, l4] [.int (s0)] h = if s0 = 0 then R_J10_init_2 d 41 [l0, l1, l2, l3, l4] [] h else R_J10_init_2 d 22 [l0, l1, l2, l3, l4] [] h := (s_if (g := (fun x => decide (x = 0))) (t := 41) (nx := 22) rfl).trans bif_dec
theorem r_J10_init_2_41 {d : Nat} {l0 l1 l2 l3 l4 : Option Value} {h : AH} : R_J10_init_2 d 41 [l0, l1, l2, l3, l4] [] h = R_J10_init_2 d 44 [l0, l1, l2, l3, l4] [h.2.2.2 4] h := p_stat rfl
theorem r_J10_init_2_22 {d : Nat} {a0 : Nat} {l1 l2 l3 l4 : Option Value} {h : AH} : R_J10_init_2 d 22 [some (.ref a0), l1, l2, l3, l4] [] h = bif vB (.int ((nI 0))) then (hpf h [21] a0 1 (.int ((nI 0)))).bind fun h1 => R_J10_init_2 d 27 [some (.ref a0), l1, l2, l3, l4] [] h1 else none := by
  refine (p_aload rfl rfl).trans ?_
  refine (p_const rfl).trans ?_
  exact s_putf rfl
theorem r_J10_init_2_44 {d : Nat} {s0 : Int32} {l0 l1 l2 l3 l4 : Option Value} {h : AH} : R_J10_init_2 d 44 [l0, l1, l2, l3, l4] [.int (s0)] h = if s0 = 0 then R_J10_init_2 d 79 [l0, l1, l2, l3, l4] [] h else R_J10_init_2 d 47 [l0, l1, l2, l3, l4] [] h := (s_if (g := (fun x => decide (x = 0))) (t := 79) (nx := 47) rfl).trans bif_dec
theorem r_J10_init_2_27 {d : Nat} {a0 a3 : Nat} {x4 : Int32} {l1 l2 : Option Value} {h : AH} : R_J10_init_2 d 27 [some (.ref a0), l1, l2, some (.ref a3), some (.int (x4))] [] h = aK (exec tTab d 258 [.ref a3, .int ((nI 0)), .int (x4)] h) (fun v h1 => R_J10_init_2 d 35 [some (.ref a0), l1, l2, some (.ref a3), some (.int (x4))] (v.toList ++ [.ref a0]) h1) (fun E h1 => some (.inr E, h1)) := by
  refine (p_aload rfl rfl).trans ?_
  refine (p_aload rfl rfl).trans ?_
  refine (p_const rfl).trans ?_
  refine (p_iload rfl rfl).trans ?_
  exact s_callS (y := 258) (n := 3) rfl rfl
theorem r_J10_init_2_79 {d : Nat} {a0 : Nat} {l1 l2 l3 l4 : Option Value} {h : AH} : R_J10_init_2 d 79 [some (.ref a0), l1, l2, l3, l4] [] h = bif vB (.int ((nI 1))) then (hpf h [21] a0 1 (.int ((nI 1)))).bind fun h1 => R_J10_init_2 d 84 [some (.ref a0), l1, l2, l3, l4] [] h1 else none := by
  refine (p_aload rfl rfl).trans ?_
  refine (p_const rfl).trans ?_
  exact s_putf rfl
theorem r_J10_init_2_47 {d : Nat} {a1 : Nat} {l0 l2 l3 l4 : Option Value} {h : AH} : R_J10_init_2 d 47 [l0, some (.ref a1), l2, l3, l4] [] h = (hgf h [20] a1 2).bind fun v => R_J10_init_2 d 51 [l0, some (.ref a1), l2, l3, l4] [v] h := by
  refine (p_aload rfl rfl).trans ?_
  exact s_getf rfl
theorem r_J10_init_2_35 {d : Nat} {b0 b1 : Nat} {l0 l1 l2 l3 l4 : Option Value} {h : AH} : R_J10_init_2 d 35 [l0, l1, l2, l3, l4] [.ref b1, .ref b0] h = (hpf h [21] b0 0 (.ref b1)).bind fun h1 => R_J10_init_2 d 38 [l0, l1, l2, l3, l4] [] h1 := s_putT rfl rfl
theorem r_J10_init_2_35N {d : Nat} {b0 : Nat} {l0 l1 l2 l3 l4 : Option Value} {h : AH} : R_J10_init_2 d 35 [l0, l1, l2, l3, l4] [.null, .ref b0] h = (hpf h [21] b0 0 (.null)).bind fun h1 => R_J10_init_2 d 38 [l0, l1, l2, l3, l4] [] h1 := s_putT rfl rfl
theorem r_J10_init_2_84 {d : Nat} {a0 a3 : Nat} {x4 : Int32} {l1 l2 : Option Value} {h : AH} : R_J10_init_2 d 84 [some (.ref a0), l1, l2, some (.ref a3), some (.int (x4))] [] h = aK (exec tTab d 258 [.ref a3, .int ((nI 0)), .int (x4 <<< ((nI 1) &&& 31))] h) (fun v h1 => R_J10_init_2 d 94 [some (.ref a0), l1, l2, some (.ref a3), some (.int (x4))] (v.toList ++ [.ref a0]) h1) (fun E h1 => some (.inr E, h1)) := by
  refine (p_aload rfl rfl).trans ?_
  refine (p_aload rfl rfl).trans ?_
  refine (p_const rfl).trans ?_
  refine (p_iload rfl rfl).trans ?_
  refine (p_const rfl).trans ?_
  refine (p_bin rfl).trans ?_
  exact s_callS (y := 258) (n := 3) rfl rfl
theorem r_J10_init_2_51 {d : Nat} {s0 : Int32} {l0 l1 l2 l3 l4 : Option Value} {h : AH} : R_J10_init_2 d 51 [l0, l1, l2, l3, l4] [.int (s0)] h = if s0 = 0 then R_J10_init_2 d 79 [l0, l1, l2, l3, l4] [] h else R_J10_init_2 d 54 [l0, l1, l2, l3, l4] [] h := (s_if (g := (fun x => decide (x = 0))) (t := 79) (nx := 54) rfl).trans bif_dec
theorem r_J10_init_2_38 {d : Nat} {l0 l1 l2 l3 l4 : Option Value} {h : AH} : R_J10_init_2 d 38 [l0, l1, l2, l3, l4] [] h = some (.inl none, h) := by
  refine (p_goto rfl).trans ?_
  exact s_vret rfl
theorem r_J10_init_2_94 {d : Nat} {b0 b1 : Nat} {l0 l1 l2 l3 l4 : Option Value} {h : AH} : R_J10_init_2 d 94 [l0, l1, l2, l3, l4] [.ref b1, .ref b0] h = (hpf h [21] b0 0 (.ref b1)).bind fun h1 => R_J10_init_2 d 97 [l0, l1, l2, l3, l4] [] h1 := s_putT rfl rfl
theorem r_J10_init_2_94N {d : Nat} {b0 : Nat} {l0 l1 l2 l3 l4 : Option Value} {h : AH} : R_J10_init_2 d 94 [l0, l1, l2, l3, l4] [.null, .ref b0] h = (hpf h [21] b0 0 (.null)).bind fun h1 => R_J10_init_2 d 97 [l0, l1, l2, l3, l4] [] h1 := s_putT rfl rfl
theorem r_J10_init_2_97 {d : Nat} {l0 l1 l2 l3 l4 : Option Value} {h : AH} : R_J10_init_2 d 97 [l0, l1, l2, l3, l4] [] h = some (.inl none, h) := s_vret rfl
theorem e_J10_init_2 {d : Nat} {a0 a1 a2 : Nat} {h : AH} : exec tTab (d + 1) K_J10_init_2 [.ref a0, .ref a1, .ref a2] h = R_J10_init_2 d 0 [some (.ref a0), some (.ref a1), some (.ref a2), none, none] [] h := exec_eq (cd := k_J10_init_2) (hd := (fun _ _ => some none)) (L := 5) rfl rfl rfl
theorem e_J10_init_2_N {d : Nat} {a0 a1 : Nat} {h : AH} : exec tTab (d + 1) K_J10_init_2 [.ref a0, .ref a1, .null] h = R_J10_init_2 d 0 [some (.ref a0), some (.ref a1), some (.null), none, none] [] h := exec_eq (cd := k_J10_init_2) (hd := (fun _ _ => some none)) (L := 5) rfl rfl rfl
/-- java/lang/String.length()I -/
abbrev K_J10_length : Nat := 280
noncomputable def R_J10_length (d pc : Nat) (ls : ALs) (st : List Value) (h : AH) : Option (AOut × AH) := aR (exec tTab d) k_J10_length (fun _ _ => some none) (pc, ls, st, h)
theorem r_J10_length_0 {d : Nat} {a0 : Nat} {h : AH} : R_J10_length d 0 [some (.ref a0)] [] h = (hgf h [21] a0 0).bind fun v => R_J10_length d 4 [some (.ref a0)] [v] h := by
  refine (p_aload rfl rfl).trans ?_
  exact s_getf rfl
theorem r_J10_length_4 {d : Nat} {b0 : Nat} {l0 : Option Value} {h : AH} : R_J10_length d 4 [l0] [.ref b0] h = (hal h b0).bind fun v => R_J10_length d 5 [l0] [.int (nI v)] h := s_alen rfl
theorem r_J10_length_5 {d : Nat} {s0 : Int32} {a0 : Nat} {h : AH} : R_J10_length d 5 [some (.ref a0)] [.int (s0)] h = ((hci h a0).bind (lkN [(21, 281)])).bind fun y => aK (exec tTab d y [.ref a0] h) (fun v h1 => R_J10_length d 9 [some (.ref a0)] (v.toList ++ [.int (s0)]) h1) (fun E h1 => some (.inr E, h1)) := by
  refine (p_aload rfl rfl).trans ?_
  exact s_callV (L := [(21, 281)]) (n := 0) (b := a0) (rest := [.int (s0)]) rfl rfl rfl
theorem r_J10_length_9 {d : Nat} {s0 s1 : Int32} {l0 : Option Value} {h : AH} : R_J10_length d 9 [l0] [.int (s1), .int (s0)] h = some (.inl (some (.int (s0 >>> (s1 &&& 31)))), h) := by
  refine (p_bin rfl).trans ?_
  exact s_iretT rfl rfl
theorem e_J10_length {d : Nat} {a0 : Nat} {h : AH} : exec tTab (d + 1) K_J10_length [.ref a0] h = R_J10_length d 0 [some (.ref a0)] [] h := exec_eq (cd := k_J10_length) (hd := (fun _ _ => some none)) (L := 1) rfl rfl rfl
/-- java/lang/String.coder()B -/
abbrev K_J10_coder : Nat := 281
noncomputable def R_J10_coder (d pc : Nat) (ls : ALs) (st : List Value) (h : AH) : Option (AOut × AH) := aR (exec tTab d) k_J10_coder (fun _ _ => some none) (pc, ls, st, h)
theorem r_J10_coder_0 {d : Nat} {l0 : Option Value} {h : AH} : R_J10_coder d 0 [l0] [] h = R_J10_coder d 3 [l0] [h.2.2.2 4] h := p_stat rfl
theorem r_J10_coder_3 {d : Nat} {s0 : Int32} {l0 : Option Value} {h : AH} : R_J10_coder d 3 [l0] [.int (s0)] h = if s0 = 0 then R_J10_coder d 13 [l0] [] h else R_J10_coder d 6 [l0] [] h := (s_if (g := (fun x => decide (x = 0))) (t := 13) (nx := 6) rfl).trans bif_dec
theorem r_J10_coder_13 {d : Nat} {l0 : Option Value} {h : AH} : R_J10_coder d 13 [l0] [] h = some (.inl (some (.int ((nI 1)))), h) := by
  refine (p_const rfl).trans ?_
  exact s_iretT rfl rfl
theorem r_J10_coder_6 {d : Nat} {a0 : Nat} {h : AH} : R_J10_coder d 6 [some (.ref a0)] [] h = (hgf h [21] a0 1).bind fun v => R_J10_coder d 10 [some (.ref a0)] [v] h := by
  refine (p_aload rfl rfl).trans ?_
  exact s_getf rfl
theorem r_J10_coder_10 {d : Nat} {s0 : Int32} {l0 : Option Value} {h : AH} : R_J10_coder d 10 [l0] [.int (s0)] h = bif s0 == 0 || s0 == 1 then some (.inl (some (.int (s0))), h) else none := by
  refine (p_goto rfl).trans ?_
  exact s_iret (ok := (fun x => x == 0 || x == 1)) rfl
theorem e_J10_coder {d : Nat} {a0 : Nat} {h : AH} : exec tTab (d + 1) K_J10_coder [.ref a0] h = R_J10_coder d 0 [some (.ref a0)] [] h := exec_eq (cd := k_J10_coder) (hd := (fun _ _ => some none)) (L := 1) rfl rfl rfl
/-- java/lang/String.hashCode()I -/
abbrev K_J10_hashCode : Nat := 283
noncomputable def R_J10_hashCode (d pc : Nat) (ls : ALs) (st : List Value) (h : AH) : Option (AOut × AH) := aR (exec tTab d) k_J10_hashCode (fun _ _ => some none) (pc, ls, st, h)
theorem r_J10_hashCode_0 {d : Nat} {a0 : Nat} {l1 : Option Value} {h : AH} : R_J10_hashCode d 0 [some (.ref a0), l1] [] h = (hgf h [21] a0 2).bind fun v => R_J10_hashCode d 4 [some (.ref a0), l1] [v] h := by
  refine (p_aload rfl rfl).trans ?_
  exact s_getf rfl
theorem r_J10_hashCode_4 {d : Nat} {s0 : Int32} {l0 l1 : Option Value} {h : AH} : R_J10_hashCode d 4 [l0, l1] [.int (s0)] h = if ¬ s0 = 0 then R_J10_hashCode d 58 [l0, some (.int (s0))] [] h else R_J10_hashCode d 9 [l0, some (.int (s0))] [] h := by
  refine (p_istore rfl rfl rfl).trans ?_
  refine (p_iload rfl rfl).trans ?_
  exact (s_if (g := (fun x => decide (¬ x = 0))) (t := 58) (nx := 9) rfl).trans bif_dec
theorem r_J10_hashCode_58 {d : Nat} {x1 : Int32} {l0 : Option Value} {h : AH} : R_J10_hashCode d 58 [l0, some (.int (x1))] [] h = some (.inl (some (.int (x1))), h) := by
  refine (p_iload rfl rfl).trans ?_
  exact s_iretT rfl rfl
theorem r_J10_hashCode_9 {d : Nat} {a0 : Nat} {l1 : Option Value} {h : AH} : R_J10_hashCode d 9 [some (.ref a0), l1] [] h = (hgf h [21] a0 3).bind fun v => R_J10_hashCode d 13 [some (.ref a0), l1] [v] h := by
  refine (p_aload rfl rfl).trans ?_
  exact s_getf rfl
theorem r_J10_hashCode_13 {d : Nat} {s0 : Int32} {l0 l1 : Option Value} {h : AH} : R_J10_hashCode d 13 [l0, l1] [.int (s0)] h = if ¬ s0 = 0 then R_J10_hashCode d 58 [l0, l1] [] h else R_J10_hashCode d 16 [l0, l1] [] h := (s_if (g := (fun x => decide (¬ x = 0))) (t := 58) (nx := 16) rfl).trans bif_dec
theorem r_J10_hashCode_16 {d : Nat} {a0 : Nat} {l1 : Option Value} {h : AH} : R_J10_hashCode d 16 [some (.ref a0), l1] [] h = ((hci h a0).bind (lkN [(21, 284)])).bind fun y => aK (exec tTab d y [.ref a0] h) (fun v h1 => R_J10_hashCode d 20 [some (.ref a0), l1] (v.toList ++ []) h1) (fun E h1 => some (.inr E, h1)) := by
  refine (p_aload rfl rfl).trans ?_
  exact s_callV (L := [(21, 284)]) (n := 0) (b := a0) (rest := []) rfl rfl rfl
theorem r_J10_hashCode_20 {d : Nat} {s0 : Int32} {l0 l1 : Option Value} {h : AH} : R_J10_hashCode d 20 [l0, l1] [.int (s0)] h = if s0 = 0 then R_J10_hashCode d 33 [l0, l1] [] h else R_J10_hashCode d 23 [l0, l1] [] h := (s_if (g := (fun x => decide (x = 0))) (t := 33) (nx := 23) rfl).trans bif_dec
theorem r_J10_hashCode_33 {d : Nat} {a0 : Nat} {l1 : Option Value} {h : AH} : R_J10_hashCode d 33 [some (.ref a0), l1] [] h = (hgf h [21] a0 0).bind fun v => R_J10_hashCode d 37 [some (.ref a0), l1] [v] h := by
  refine (p_aload rfl rfl).trans ?_
  exact s_getf rfl
theorem r_J10_hashCode_23 {d : Nat} {a0 : Nat} {l1 : Option Value} {h : AH} : R_J10_hashCode d 23 [some (.ref a0), l1] [] h = (hgf h [21] a0 0).bind fun v => R_J10_hashCode d 27 [some (.ref a0), l1] [v] h := by
  refine (p_aload rfl rfl).trans ?_
  exact s_getf rfl
theorem r_J10_hashCode_27 {d : Nat} {b0 : Nat} {l0 l1 : Option Value} {h : AH} : R_J10_hashCode d 27 [l0, l1] [.ref b0] h = aK (exec tTab d 289 [.ref b0] h) (fun v h1 => R_J10_hashCode d 30 [l0, l1] (v.toList ++ []) h1) (fun E h1 => some (.inr E, h1)) := s_callS (y := 289) (n := 1) rfl rfl
theorem r_J10_hashCode_27N {d : Nat} {l0 l1 : Option Value} {h : AH} : R_J10_hashCode d 27 [l0, l1] [.null] h = aK (exec tTab d 289 [.null] h) (fun v h1 => R_J10_hashCode d 30 [l0, l1] (v.toList ++ []) h1) (fun E h1 => some (.inr E, h1)) := s_callS (y := 289) (n := 1) rfl rfl
theorem r_J10_hashCode_30 {d : Nat} {s0 : Int32} {l0 l1 : Option Value} {h : AH} : R_J10_hashCode d 30 [l0, l1] [.int (s0)] h = if ¬ s0 = 0 then R_J10_hashCode d 53 [l0, some (.int (s0))] [] h else R_J10_hashCode d 45 [l0, some (.int (s0))] [] h := by
  refine (p_goto rfl).trans ?_
  refine (p_istore rfl rfl rfl).trans ?_
  refine (p_iload rfl rfl).trans ?_
  exact (s_if (g := (fun x => decide (¬ x = 0))) (t := 53) (nx := 45) rfl).trans bif_dec
theorem r_J10_hashCode_53 {d : Nat} {a0 : Nat} {x1 : Int32} {h : AH} : R_J10_hashCode d 53 [some (.ref a0), some (.int (x1))] [] h = (hpf h [21] a0 2 (.int (x1))).bind fun h1 => R_J10_hashCode d 58 [some (.ref a0), some (.int (x1))] [] h1 := by
  refine (p_aload rfl rfl).trans ?_
  refine (p_iload rfl rfl).trans ?_
  exact s_putT rfl rfl
theorem r_J10_hashCode_45 {d : Nat} {a0 : Nat} {l1 : Option Value} {h : AH} : R_J10_hashCode d 45 [some (.ref a0), l1] [] h = bif vZ (.int ((nI 1))) then (hpf h [21] a0 3 (.int ((nI 1)))).bind fun h1 => R_J10_hashCode d 50 [some (.ref a0), l1] [] h1 else none := by
  refine (p_aload rfl rfl).trans ?_
  refine (p_const rfl).trans ?_
  exact s_putf rfl
theorem r_J10_hashCode_50 {d : Nat} {x1 : Int32} {l0 : Option Value} {h : AH} : R_J10_hashCode d 50 [l0, some (.int (x1))] [] h = some (.inl (some (.int (x1))), h) := by
  refine (p_goto rfl).trans ?_
  refine (p_iload rfl rfl).trans ?_
  exact s_iretT rfl rfl
theorem e_J10_hashCode {d : Nat} {a0 : Nat} {h : AH} : exec tTab (d + 1) K_J10_hashCode [.ref a0] h = R_J10_hashCode d 0 [some (.ref a0), none] [] h := exec_eq (cd := k_J10_hashCode) (hd := (fun _ _ => some none)) (L := 2) rfl rfl rfl
/-- java/lang/String.isLatin1()Z -/
abbrev K_J10_isLatin1 : Nat := 284
noncomputable def R_J10_isLatin1 (d pc : Nat) (ls : ALs) (st : List Value) (h : AH) : Option (AOut × AH) := aR (exec tTab d) k_J10_isLatin1 (fun _ _ => some none) (pc, ls, st, h)
theorem r_J10_isLatin1_0 {d : Nat} {l0 : Option Value} {h : AH} : R_J10_isLatin1 d 0 [l0] [] h = R_J10_isLatin1 d 3 [l0] [h.2.2.2 4] h := p_stat rfl
theorem r_J10_isLatin1_3 {d : Nat} {s0 : Int32} {l0 : Option Value} {h : AH} : R_J10_isLatin1 d 3 [l0] [.int (s0)] h = if s0 = 0 then R_J10_isLatin1 d 17 [l0] [] h else R_J10_isLatin1 d 6 [l0] [] h := (s_if (g := (fun x => decide (x = 0))) (t := 17) (nx := 6) rfl).trans bif_dec
theorem r_J10_isLatin1_17 {d : Nat} {l0 : Option Value} {h : AH} : R_J10_isLatin1 d 17 [l0] [] h = some (.inl (some (.int ((nI 0)))), h) := by
  refine (p_const rfl).trans ?_
  exact s_iretT rfl rfl
theorem r_J10_isLatin1_6 {d : Nat} {a0 : Nat} {h : AH} : R_J10_isLatin1 d 6 [some (.ref a0)] [] h = (hgf h [21] a0 1).bind fun v => R_J10_isLatin1 d 10 [some (.ref a0)] [v] h := by
  refine (p_aload rfl rfl).trans ?_
  exact s_getf rfl
theorem r_J10_isLatin1_10 {d : Nat} {s0 : Int32} {l0 : Option Value} {h : AH} : R_J10_isLatin1 d 10 [l0] [.int (s0)] h = if ¬ s0 = 0 then R_J10_isLatin1 d 17 [l0] [] h else R_J10_isLatin1 d 13 [l0] [] h := (s_if (g := (fun x => decide (¬ x = 0))) (t := 17) (nx := 13) rfl).trans bif_dec
theorem r_J10_isLatin1_13 {d : Nat} {l0 : Option Value} {h : AH} : R_J10_isLatin1 d 13 [l0] [] h = some (.inl (some (.int ((nI 1)))), h) := by
  refine (p_const rfl).trans ?_
  refine (p_goto rfl).trans ?_
  exact s_iretT rfl rfl
theorem e_J10_isLatin1 {d : Nat} {a0 : Nat} {h : AH} : exec tTab (d + 1) K_J10_isLatin1 [.ref a0] h = R_J10_isLatin1 d 0 [some (.ref a0)] [] h := exec_eq (cd := k_J10_isLatin1) (hd := (fun _ _ => some none)) (L := 1) rfl rfl rfl
/-- java/lang/String.equals(Ljava/lang/Object;)Z -/
abbrev K_J10_equals : Nat := 285
noncomputable def R_J10_equals (d pc : Nat) (ls : ALs) (st : List Value) (h : AH) : Option (AOut × AH) := aR (exec tTab d) k_J10_equals (fun _ _ => some none) (pc, ls, st, h)
theorem r_J10_equals_0 {d : Nat} {a0 a1 : Nat} {l2 : Option Value} {h : AH} : R_J10_equals d 0 [some (.ref a0), some (.ref a1), l2] [] h = if some a0 = some a1 then R_J10_equals d 5 [some (.ref a0), some (.ref a1), l2] [] h else R_J10_equals d 7 [some (.ref a0), some (.ref a1), l2] [] h := by
  refine (p_aload rfl rfl).trans ?_
  refine (p_aload rfl rfl).trans ?_
  exact s_acmp' (x := some a0) (y := some a1) rfl rfl rfl
theorem r_J10_equals_5 {d : Nat} {l0 l1 l2 : Option Value} {h : AH} : R_J10_equals d 5 [l0, l1, l2] [] h = some (.inl (some (.int ((nI 1)))), h) := by
  refine (p_const rfl).trans ?_
  exact s_iretT rfl rfl
theorem r_J10_equals_7 {d : Nat} {a1 : Nat} {l0 l2 : Option Value} {h : AH} : R_J10_equals d 7 [l0, some (.ref a1), l2] [] h = (hci h a1).bind fun ci => bif ([21] : List Nat).contains ci then R_J10_equals d 11 [l0, some (.ref a1), l2] [.int (1)] h else none := by
  refine (p_aload rfl rfl).trans ?_
  exact s_inst rfl
theorem r_J10_equals_11 {d : Nat} {s0 : Int32} {l0 l1 l2 : Option Value} {h : AH} : R_J10_equals d 11 [l0, l1, l2] [.int (s0)] h = if s0 = 0 then R_J10_equals d 54 [l0, l1, l2] [] h else R_J10_equals d 14 [l0, l1, l2] [] h := (s_if (g := (fun x => decide (x = 0))) (t := 54) (nx := 14) rfl).trans bif_dec
theorem r_J10_equals_54 {d : Nat} {l0 l1 l2 : Option Value} {h : AH} : R_J10_equals d 54 [l0, l1, l2] [] h = some (.inl (some (.int ((nI 0)))), h) := by
  refine (p_const rfl).trans ?_
  exact s_iretT rfl rfl
theorem r_J10_equals_14 {d : Nat} {a1 : Nat} {l0 l2 : Option Value} {h : AH} : R_J10_equals d 14 [l0, some (.ref a1), l2] [] h = bif hck h [21] [] a1 then R_J10_equals d 18 [l0, some (.ref a1), l2] [.ref a1] h else none := by
  refine (p_aload rfl rfl).trans ?_
  exact s_cast rfl
theorem r_J10_equals_18 {d : Nat} {b0 : Nat} {l0 l1 l2 : Option Value} {h : AH} : R_J10_equals d 18 [l0, l1, l2] [.ref b0] h = R_J10_equals d 22 [l0, l1, some (.ref b0)] [h.2.2.2 4] h := by
  refine (p_astore rfl rfl rfl).trans ?_
  exact p_stat rfl
theorem r_J10_equals_18N {d : Nat} {l0 l1 l2 : Option Value} {h : AH} : R_J10_equals d 18 [l0, l1, l2] [.null] h = R_J10_equals d 22 [l0, l1, some (.null)] [h.2.2.2 4] h := by
  refine (p_astoreN rfl rfl rfl).trans ?_
  exact p_stat rfl
theorem r_J10_equals_22 {d : Nat} {s0 : Int32} {l0 l1 l2 : Option Value} {h : AH} : R_J10_equals d 22 [l0, l1, l2] [.int (s0)] h = if s0 = 0 then R_J10_equals d 36 [l0, l1, l2] [] h else R_J10_equals d 25 [l0, l1, l2] [] h := (s_if (g := (fun x => decide (x = 0))) (t := 36) (nx := 25) rfl).trans bif_dec
theorem r_J10_equals_36 {d : Nat} {a0 : Nat} {l1 l2 : Option Value} {h : AH} : R_J10_equals d 36 [some (.ref a0), l1, l2] [] h = (hgf h [21] a0 0).bind fun v => R_J10_equals d 40 [some (.ref a0), l1, l2] [v] h := by
  refine (p_aload rfl rfl).trans ?_
  exact s_getf rfl
theorem r_J10_equals_25 {d : Nat} {a0 : Nat} {l1 l2 : Option Value} {h : AH} : R_J10_equals d 25 [some (.ref a0), l1, l2] [] h = (hgf h [21] a0 1).bind fun v => R_J10_equals d 29 [some (.ref a0), l1, l2] [v] h := by
  refine (p_aload rfl rfl).trans ?_
  exact s_getf rfl
theorem r_J10_equals_40 {d : Nat} {b0 a2 : Nat} {l0 l1 : Option Value} {h : AH} : R_J10_equals d 40 [l0, l1, some (.ref a2)] [.ref b0] h = (hgf h [21] a2 0).bind fun v => R_J10_equals d 44 [l0, l1, some (.ref a2)] [v, .ref b0] h := by
  refine (p_aload rfl rfl).trans ?_
  exact s_getf rfl
theorem r_J10_equals_40N {d : Nat} {a2 : Nat} {l0 l1 : Option Value} {h : AH} : R_J10_equals d 40 [l0, l1, some (.ref a2)] [.null] h = (hgf h [21] a2 0).bind fun v => R_J10_equals d 44 [l0, l1, some (.ref a2)] [v, .null] h := by
  refine (p_aload rfl rfl).trans ?_
  exact s_getf rfl
theorem r_J10_equals_29 {d : Nat} {s0 : Int32} {a2 : Nat} {l0 l1 : Option Value} {h : AH} : R_J10_equals d 29 [l0, l1, some (.ref a2)] [.int (s0)] h = (hgf h [21] a2 1).bind fun v => R_J10_equals d 33 [l0, l1, some (.ref a2)] [v, .int (s0)] h := by
  refine (p_aload rfl rfl).trans ?_
  exact s_getf rfl
theorem r_J10_equals_44 {d : Nat} {b0 b1 : Nat} {l0 l1 l2 : Option Value} {h : AH} : R_J10_equals d 44 [l0, l1, l2] [.ref b1, .ref b0] h = aK (exec tTab d 290 [.ref b0, .ref b1] h) (fun v h1 => R_J10_equals d 47 [l0, l1, l2] (v.toList ++ []) h1) (fun E h1 => some (.inr E, h1)) := s_callS (y := 290) (n := 2) rfl rfl
theorem r_J10_equals_44N {d : Nat} {b0 : Nat} {l0 l1 l2 : Option Value} {h : AH} : R_J10_equals d 44 [l0, l1, l2] [.null, .ref b0] h = aK (exec tTab d 290 [.ref b0, .null] h) (fun v h1 => R_J10_equals d 47 [l0, l1, l2] (v.toList ++ []) h1) (fun E h1 => some (.inr E, h1)) := s_callS (y := 290) (n := 2) rfl rfl
theorem r_J10_equals_33 {d : Nat} {s0 s1 : Int32} {l0 l1 l2 : Option Value} {h : AH} : R_J10_equals d 33 [l0, l1, l2] [.int (s1), .int (s0)] h = if ¬ s0 = s1 then R_J10_equals d 54 [l0, l1, l2] [] h else R_J10_equals d 36 [l0, l1, l2] [] h := (s_icmp (g := (fun x y => decide (¬ x = y))) (t := 54) (nx := 36) rfl).trans bif_dec
theorem r_J10_equals_47 {d : Nat} {s0 : Int32} {l0 l1 l2 : Option Value} {h : AH} : R_J10_equals d 47 [l0, l1, l2] [.int (s0)] h = if s0 = 0 then R_J10_equals d 54 [l0, l1, l2] [] h else R_J10_equals d 50 [l0, l1, l2] [] h := (s_if (g := (fun x => decide (x = 0))) (t := 54) (nx := 50) rfl).trans bif_dec
theorem r_J10_equals_50 {d : Nat} {l0 l1 l2 : Option Value} {h : AH} : R_J10_equals d 50 [l0, l1, l2] [] h = some (.inl (some (.int ((nI 1)))), h) := by
  refine (p_const rfl).trans ?_
  refine (p_goto rfl).trans ?_
  exact s_iretT rfl rfl
theorem e_J10_equals {d : Nat} {a0 a1 : Nat} {h : AH} : exec tTab (d + 1) K_J10_equals [.ref a0, .ref a1] h = R_J10_equals d 0 [some (.ref a0), some (.ref a1), none] [] h := exec_eq (cd := k_J10_equals) (hd := (fun _ _ => some none)) (L := 3) rfl rfl rfl
/-- java/lang/String.charAt(I)C -/
abbrev K_J10_charAt : Nat := 286
noncomputable def R_J10_charAt (d pc : Nat) (ls : ALs) (st : List Value) (h : AH) : Option (AOut × AH) := aR (exec tTab d) k_J10_charAt (fun _ _ => some none) (pc, ls, st, h)
theorem r_J10_charAt_0 {d : Nat} {a0 : Nat} {l1 : Option Value} {h : AH} : R_J10_charAt d 0 [some (.ref a0), l1] [] h = ((hci h a0).bind (lkN [(21, 284)])).bind fun y => aK (exec tTab d y [.ref a0] h) (fun v h1 => R_J10_charAt d 4 [some (.ref a0), l1] (v.toList ++ []) h1) (fun E h1 => some (.inr E, h1)) := by
  refine (p_aload rfl rfl).trans ?_
  exact s_callV (L := [(21, 284)]) (n := 0) (b := a0) (rest := []) rfl rfl rfl
theorem r_J10_charAt_4 {d : Nat} {s0 : Int32} {l0 l1 : Option Value} {h : AH} : R_J10_charAt d 4 [l0, l1] [.int (s0)] h = if s0 = 0 then R_J10_charAt d 16 [l0, l1] [] h else R_J10_charAt d 7 [l0, l1] [] h := (s_if (g := (fun x => decide (x = 0))) (t := 16) (nx := 7) rfl).trans bif_dec
theorem r_J10_charAt_16 {d : Nat} {a0 : Nat} {l1 : Option Value} {h : AH} : R_J10_charAt d 16 [some (.ref a0), l1] [] h = (hgf h [21] a0 0).bind fun v => R_J10_charAt d 20 [some (.ref a0), l1] [v] h := by
  refine (p_aload rfl rfl).trans ?_
  exact s_getf rfl
theorem r_J10_charAt_7 {d : Nat} {a0 : Nat} {l1 : Option Value} {h : AH} : R_J10_charAt d 7 [some (.ref a0), l1] [] h = (hgf h [21] a0 0).bind fun v => R_J10_charAt d 11 [some (.ref a0), l1] [v] h := by
  refine (p_aload rfl rfl).trans ?_
  exact s_getf rfl
theorem r_J10_charAt_11 {d : Nat} {b0 : Nat} {x1 : Int32} {l0 : Option Value} {h : AH} : R_J10_charAt d 11 [l0, some (.int (x1))] [.ref b0] h = aK (exec tTab d 291 [.ref b0, .int (x1)] h) (fun v h1 => R_J10_charAt d 15 [l0, some (.int (x1))] (v.toList ++ []) h1) (fun E h1 => some (.inr E, h1)) := by
  refine (p_iload rfl rfl).trans ?_
  exact s_callS (y := 291) (n := 2) rfl rfl
theorem r_J10_charAt_11N {d : Nat} {x1 : Int32} {l0 : Option Value} {h : AH} : R_J10_charAt d 11 [l0, some (.int (x1))] [.null] h = aK (exec tTab d 291 [.null, .int (x1)] h) (fun v h1 => R_J10_charAt d 15 [l0, some (.int (x1))] (v.toList ++ []) h1) (fun E h1 => some (.inr E, h1)) := by
  refine (p_iload rfl rfl).trans ?_
  exact s_callS (y := 291) (n := 2) rfl rfl
theorem r_J10_charAt_15 {d : Nat} {s0 : Int32} {l0 l1 : Option Value} {h : AH} : R_J10_charAt d 15 [l0, l1] [.int (s0)] h = bif decide (narrow .char (.int s0) = .int s0) then some (.inl (some (.int (s0))), h) else none := s_iret (ok := (fun x => decide (narrow .char (.int x) = .int x))) rfl
theorem e_J10_charAt {d : Nat} {a0 : Nat} {x1 : Int32} {h : AH} : exec tTab (d + 1) K_J10_charAt [.ref a0, .int x1] h = R_J10_charAt d 0 [some (.ref a0), some (.int x1)] [] h := exec_eq (cd := k_J10_charAt) (hd := (fun _ _ => some none)) (L := 2) rfl rfl rfl
/-- java/lang/StringLatin1.canEncode(C)Z -/
abbrev K_J12_canEncode : Nat := 287
noncomputable def R_J12_canEncode (d pc : Nat) (ls : ALs) (st : List Value) (h : AH) : Option (AOut × AH) := aR (exec tTab d) k_J12_canEncode (fun _ _ => some none) (pc, ls, st, h)
theorem r_J12_canEncode_0 {d : Nat} {x0 : Int32} {h : AH} : R_J12_canEncode d 0 [some (.int (x0))] [] h = if (nI 255) < x0 then R_J12_canEncode d 11 [some (.int (x0))] [] h else R_J12_canEncode d 7 [some (.int (x0))] [] h := by
  refine (p_iload rfl rfl).trans ?_
  refine (p_const rfl).trans ?_
  exact (s_icmp (g := (fun x y => decide (y < x))) (t := 11) (nx := 7) rfl).trans bif_dec
theorem r_J12_canEncode_11 {d : Nat} {l0 : Option Value} {h : AH} : R_J12_canEncode d 11 [l0] [] h = some (.inl (some (.int ((nI 0)))), h) := by
  refine (p_const rfl).trans ?_
  exact s_iretT rfl rfl
theorem r_J12_canEncode_7 {d : Nat} {l0 : Option Value} {h : AH} : R_J12_canEncode d 7 [l0] [] h = some (.inl (some (.int ((nI 1)))), h) := by
  refine (p_const rfl).trans ?_
  refine (p_goto rfl).trans ?_
  exact s_iretT rfl rfl
theorem e_J12_canEncode {d : Nat} {x0 : Int32} {h : AH} : exec tTab (d + 1) K_J12_canEncode [.int x0] h = R_J12_canEncode d 0 [some (.int x0)] [] h := exec_eq (cd := k_J12_canEncode) (hd := (fun _ _ => some none)) (L := 1) rfl rfl rfl
/-- java/lang/StringLatin1.hashCode([B)I -/
abbrev K_J12_hashCode : Nat := 289
noncomputable def R_J12_hashCode (d pc : Nat) (ls : ALs) (st : List Value) (h : AH) : Option (AOut × AH) := aR (exec tTab d) k_J12_hashCode (fun _ _ => some none) (pc, ls, st, h)
theorem r_J12_hashCode_0 {d : Nat} {a0 : Nat} {h : AH} : R_J12_hashCode d 0 [some (.ref a0)] [] h = (hal h a0).bind fun v => R_J12_hashCode d 2 [some (.ref a0)] [.int (nI v)] h := by
  refine (p_aload rfl rfl).trans ?_
  exact s_alen rfl
theorem r_J12_hashCode_2 {d : Nat} {s0 : Int32} {l0 : Option Value} {h : AH} : R_J12_hashCode d 2 [l0] [.int (s0)] h = R_J12_hashCode d (if (0 : Int) = s0.toInt then 28 else if (1 : Int) = s0.toInt then 32 else 42) [l0] [] h := p_sw (g := (fun x => if (0 : Int) = x.toInt then 28 else if (1 : Int) = x.toInt then 32 else 42)) rfl
theorem r_J12_hashCode_28 {d : Nat} {l0 : Option Value} {h : AH} : R_J12_hashCode d 28 [l0] [] h = some (.inl (some (.int ((nI 0)))), h) := by
  refine (p_const rfl).trans ?_
  refine (p_goto rfl).trans ?_
  exact s_iretT rfl rfl
theorem r_J12_hashCode_32 {d : Nat} {a0 : Nat} {h : AH} : R_J12_hashCode d 32 [some (.ref a0)] [] h = (hai h 1 a0 (nI 0)).bind fun v => R_J12_hashCode d 35 [some (.ref a0)] [.int v] h := by
  refine (p_aload rfl rfl).trans ?_
  refine (p_const rfl).trans ?_
  exact s_iald rfl
theorem r_J12_hashCode_42 {d : Nat} {a0 : Nat} {h : AH} : R_J12_hashCode d 42 [some (.ref a0)] [] h = (hal h a0).bind fun v => R_J12_hashCode d 46 [some (.ref a0)] [.int (nI v), .int ((nI 0)), .ref a0] h := by
  refine (p_aload rfl rfl).trans ?_
  refine (p_const rfl).trans ?_
  refine (p_aload rfl rfl).trans ?_
  exact s_alen rfl
theorem r_J12_hashCode_35 {d : Nat} {s0 : Int32} {l0 : Option Value} {h : AH} : R_J12_hashCode d 35 [l0] [.int (s0)] h = some (.inl (some (.int (s0 &&& (nI 255)))), h) := by
  refine (p_const rfl).trans ?_
  refine (p_bin rfl).trans ?_
  refine (p_goto rfl).trans ?_
  exact s_iretT rfl rfl
theorem r_J12_hashCode_46 {d : Nat} {b0 : Nat} {s1 s2 : Int32} {l0 : Option Value} {h : AH} : R_J12_hashCode d 46 [l0] [.int (s2), .int (s1), .ref b0] h = aK (exec tTab d 253 [.ref b0, .int (s1), .int (s2), .int ((nI 0)), .int ((nI 4))] h) (fun v h1 => R_J12_hashCode d 51 [l0] (v.toList ++ []) h1) (fun E h1 => some (.inr E, h1)) := by
  refine (p_const rfl).trans ?_
  refine (p_const rfl).trans ?_
  exact s_callS (y := 253) (n := 5) rfl rfl
theorem r_J12_hashCode_51 {d : Nat} {s0 : Int32} {l0 : Option Value} {h : AH} : R_J12_hashCode d 51 [l0] [.int (s0)] h = some (.inl (some (.int (s0))), h) := s_iretT rfl rfl
theorem e_J12_hashCode {d : Nat} {a0 : Nat} {h : AH} : exec tTab (d + 1) K_J12_hashCode [.ref a0] h = R_J12_hashCode d 0 [some (.ref a0)] [] h := exec_eq (cd := k_J12_hashCode) (hd := (fun _ _ => some none)) (L := 1) rfl rfl rfl
/-- java/lang/StringLatin1.equals([B[B)Z -/
abbrev K_J12_equals : Nat := 290
noncomputable def R_J12_equals (d pc : Nat) (ls : ALs) (st : List Value) (h : AH) : Option (AOut × AH) := aR (exec tTab d) k_J12_equals (fun _ _ => some none) (pc, ls, st, h)
theorem r_J12_equals_0 {d : Nat} {a0 : Nat} {l1 l2 : Option Value} {h : AH} : R_J12_equals d 0 [some (.ref a0), l1, l2] [] h = (hal h a0).bind fun v => R_J12_equals d 2 [some (.ref a0), l1, l2] [.int (nI v)] h := by
  refine (p_aload rfl rfl).trans ?_
  exact s_alen rfl
theorem r_J12_equals_2 {d : Nat} {s0 : Int32} {a1 : Nat} {l0 l2 : Option Value} {h : AH} : R_J12_equals d 2 [l0, some (.ref a1), l2] [.int (s0)] h = (hal h a1).bind fun v => R_J12_equals d 4 [l0, some (.ref a1), l2] [.int (nI v), .int (s0)] h := by
  refine (p_aload rfl rfl).trans ?_
  exact s_alen rfl
theorem r_J12_equals_4 {d : Nat} {s0 s1 : Int32} {l0 l1 l2 : Option Value} {h : AH} : R_J12_equals d 4 [l0, l1, l2] [.int (s1), .int (s0)] h = if ¬ s0 = s1 then R_J12_equals d 34 [l0, l1, l2] [] h else R_J12_equals d 7 [l0, l1, l2] [] h := (s_icmp (g := (fun x y => decide (¬ x = y))) (t := 34) (nx := 7) rfl).trans bif_dec
theorem r_J12_equals_34 {d : Nat} {l0 l1 l2 : Option Value} {h : AH} : R_J12_equals d 34 [l0, l1, l2] [] h = some (.inl (some (.int ((nI 0)))), h) := by
  refine (p_const rfl).trans ?_
  exact s_iretT rfl rfl
theorem r_J12_equals_7 {d : Nat} {l0 l1 l2 : Option Value} {h : AH} : R_J12_equals d 7 [l0, l1, l2] [] h = R_J12_equals d 9 [l0, l1, some (.int ((nI 0)))] [] h := by
  refine (p_const rfl).trans ?_
  refine (p_istore rfl rfl rfl).trans ?_
  exact rfl
theorem q_J12_equals_9 {d : Nat} {x2 : Int32} {a0 : Nat} {l1 : Option Value} {h : AH} : R_J12_equals d 9 [some (.ref a0), l1, some (.int (x2))] [] h = (hal h a0).bind fun v => R_J12_equals d 12 [some (.ref a0), l1, some (.int (x2))] [.int (nI v), .int (x2)] h := by
  refine (p_iload rfl rfl).trans ?_
  refine (p_aload rfl rfl).trans ?_
  exact s_alen rfl
theorem r_J12_equals_12 {d : Nat} {s0 s1 : Int32} {l0 l1 l2 : Option Value} {h : AH} : R_J12_equals d 12 [l0, l1, l2] [.int (s1), .int (s0)] h = if s1 ≤ s0 then R_J12_equals d 32 [l0, l1, l2] [] h else R_J12_equals d 15 [l0, l1, l2] [] h := (s_icmp (g := (fun x y => decide (y ≤ x))) (t := 32) (nx := 15) rfl).trans bif_dec
theorem r_J12_equals_32 {d : Nat} {l0 l1 l2 : Option Value} {h : AH} : R_J12_equals d 32 [l0, l1, l2] [] h = some (.inl (some (.int ((nI 1)))), h) := by
  refine (p_const rfl).trans ?_
  exact s_iretT rfl rfl
theorem r_J12_equals_15 {d : Nat} {a0 : Nat} {x2 : Int32} {l1 : Option Value} {h : AH} : R_J12_equals d 15 [some (.ref a0), l1, some (.int (x2))] [] h = (hai h 1 a0 x2).bind fun v => R_J12_equals d 18 [some (.ref a0), l1, some (.int (x2))] [.int v] h := by
  refine (p_aload rfl rfl).trans ?_
  refine (p_iload rfl rfl).trans ?_
  exact s_iald rfl
theorem r_J12_equals_18 {d : Nat} {s0 x2 : Int32} {a1 : Nat} {l0 : Option Value} {h : AH} : R_J12_equals d 18 [l0, some (.ref a1), some (.int (x2))] [.int (s0)] h = (hai h 1 a1 x2).bind fun v => R_J12_equals d 21 [l0, some (.ref a1), some (.int (x2))] [.int v, .int (s0)] h := by
  refine (p_aload rfl rfl).trans ?_
  refine (p_iload rfl rfl).trans ?_
  exact s_iald rfl
theorem r_J12_equals_21 {d : Nat} {s0 s1 : Int32} {l0 l1 l2 : Option Value} {h : AH} : R_J12_equals d 21 [l0, l1, l2] [.int (s1), .int (s0)] h = if s0 = s1 then R_J12_equals d 26 [l0, l1, l2] [] h else R_J12_equals d 24 [l0, l1, l2] [] h := (s_icmp (g := (fun x y => decide (x = y))) (t := 26) (nx := 24) rfl).trans bif_dec
theorem r_J12_equals_26 {d : Nat} {x2 : Int32} {l0 l1 : Option Value} {h : AH} : R_J12_equals d 26 [l0, l1, some (.int (x2))] [] h = R_J12_equals d 9 [l0, l1, some (.int (x2 + (nI 1)))] [] h := by
  refine (p_iinc rfl rfl rfl).trans ?_
  refine (p_goto rfl).trans ?_
  exact rfl
theorem r_J12_equals_24 {d : Nat} {l0 l1 l2 : Option Value} {h : AH} : R_J12_equals d 24 [l0, l1, l2] [] h = some (.inl (some (.int ((nI 0)))), h) := by
  refine (p_const rfl).trans ?_
  exact s_iretT rfl rfl
theorem e_J12_equals {d : Nat} {a0 a1 : Nat} {h : AH} : exec tTab (d + 1) K_J12_equals [.ref a0, .ref a1] h = R_J12_equals d 0 [some (.ref a0), some (.ref a1), none] [] h := exec_eq (cd := k_J12_equals) (hd := (fun _ _ => some none)) (L := 3) rfl rfl rfl
/-- java/lang/StringLatin1.charAt([BI)C -/
abbrev K_J12_charAt : Nat := 291
noncomputable def R_J12_charAt (d pc : Nat) (ls : ALs) (st : List Value) (h : AH) : Option (AOut × AH) := aR (exec tTab d) k_J12_charAt (fun _ _ => some none) (pc, ls, st, h)
theorem r_J12_charAt_0 {d : Nat} {x1 : Int32} {a0 : Nat} {h : AH} : R_J12_charAt d 0 [some (.ref a0), some (.int (x1))] [] h = (hal h a0).bind fun v => R_J12_charAt d 3 [some (.ref a0), some (.int (x1))] [.int (nI v), .int (x1)] h := by
  refine (p_iload rfl rfl).trans ?_
  refine (p_aload rfl rfl).trans ?_
  exact s_alen rfl
theorem r_J12_charAt_3 {d : Nat} {s0 s1 : Int32} {l0 l1 : Option Value} {h : AH} : R_J12_charAt d 3 [l0, l1] [.int (s1), .int (s0)] h = aK (exec tTab d 277 [.int (s0), .int (s1)] h) (fun v h1 => R_J12_charAt d 6 [l0, l1] (v.toList ++ []) h1) (fun E h1 => some (.inr E, h1)) := s_callS (y := 277) (n := 2) rfl rfl
theorem r_J12_charAt_6 {d : Nat} {a0 : Nat} {x1 : Int32} {h : AH} : R_J12_charAt d 6 [some (.ref a0), some (.int (x1))] [] h = (hai h 1 a0 x1).bind fun v => R_J12_charAt d 9 [some (.ref a0), some (.int (x1))] [.int v] h := by
  refine (p_aload rfl rfl).trans ?_
  refine (p_iload rfl rfl).trans ?_
  exact s_iald rfl
theorem r_J12_charAt_9 {d : Nat} {s0 : Int32} {l0 l1 : Option Value} {h : AH} : R_J12_charAt d 9 [l0, l1] [.int (s0)] h = bif decide (narrow .char (.int (((s0 &&& (nI 255)).toUInt32 % 65536).toInt32)) = .int (((s0 &&& (nI 255)).toUInt32 % 65536).toInt32)) then some (.inl (some (.int (((s0 &&& (nI 255)).toUInt32 % 65536).toInt32))), h) else none := by
  refine (p_const rfl).trans ?_
  refine (p_bin rfl).trans ?_
  refine (p_un rfl).trans ?_
  exact s_iret (ok := (fun x => decide (narrow .char (.int x) = .int x))) rfl
theorem e_J12_charAt {d : Nat} {a0 : Nat} {x1 : Int32} {h : AH} : exec tTab (d + 1) K_J12_charAt [.ref a0, .int x1] h = R_J12_charAt d 0 [some (.ref a0), some (.int x1)] [] h := exec_eq (cd := k_J12_charAt) (hd := (fun _ _ => some none)) (L := 2) rfl rfl rfl
/-- java/lang/Throwable.<init>(Ljava/lang/String;)V -/
abbrev K_J13_init_2 : Nat := 293
noncomputable def R_J13_init_2 (d pc : Nat) (ls : ALs) (st : List Value) (h : AH) : Option (AOut × AH) := aR (exec tTab d) k_J13_init_2 (fun _ _ => some none) (pc, ls, st, h)
theorem r_J13_init_2_0 {d : Nat} {a0 : Nat} {l1 : Option Value} {h : AH} : R_J13_init_2 d 0 [some (.ref a0), l1] [] h = (hpf h [17] a0 0 (.ref a0)).bind fun h1 => R_J13_init_2 d 9 [some (.ref a0), l1] [] h1 := by
  refine (p_aload rfl rfl).trans ?_
  refine (s_objI rfl rfl).trans ?_
  refine (p_aload rfl rfl).trans ?_
  refine (p_aload rfl rfl).trans ?_
  exact s_putT rfl rfl
theorem r_J13_init_2_9 {d : Nat} {a0 : Nat} {l1 : Option Value} {h : AH} : R_J13_init_2 d 9 [some (.ref a0), l1] [] h = R_J13_init_2 d 13 [some (.ref a0), l1] [h.2.2.2 6, .ref a0] h := by
  refine (p_aload rfl rfl).trans ?_
  exact p_stat rfl
theorem r_J13_init_2_13 {d : Nat} {b0 b1 : Nat} {l0 l1 : Option Value} {h : AH} : R_J13_init_2 d 13 [l0, l1] [.ref b1, .ref b0] h = (hpf h [17] b0 1 (.ref b1)).bind fun h1 => R_J13_init_2 d 16 [l0, l1] [] h1 := s_putT rfl rfl
theorem r_J13_init_2_13N {d : Nat} {b0 : Nat} {l0 l1 : Option Value} {h : AH} : R_J13_init_2 d 13 [l0, l1] [.null, .ref b0] h = (hpf h [17] b0 1 (.null)).bind fun h1 => R_J13_init_2 d 16 [l0, l1] [] h1 := s_putT rfl rfl
theorem r_J13_init_2_16 {d : Nat} {a0 : Nat} {l1 : Option Value} {h : AH} : R_J13_init_2 d 16 [some (.ref a0), l1] [] h = R_J13_init_2 d 20 [some (.ref a0), l1] [h.2.2.2 7, .ref a0] h := by
  refine (p_aload rfl rfl).trans ?_
  exact p_stat rfl
theorem r_J13_init_2_20 {d : Nat} {b0 b1 : Nat} {l0 l1 : Option Value} {h : AH} : R_J13_init_2 d 20 [l0, l1] [.ref b1, .ref b0] h = (hpf h [17] b0 2 (.ref b1)).bind fun h1 => R_J13_init_2 d 23 [l0, l1] [] h1 := s_putT rfl rfl
theorem r_J13_init_2_20N {d : Nat} {b0 : Nat} {l0 l1 : Option Value} {h : AH} : R_J13_init_2 d 20 [l0, l1] [.null, .ref b0] h = (hpf h [17] b0 2 (.null)).bind fun h1 => R_J13_init_2 d 23 [l0, l1] [] h1 := s_putT rfl rfl
theorem e_J13_init_2 {d : Nat} {a0 a1 : Nat} {h : AH} : exec tTab (d + 1) K_J13_init_2 [.ref a0, .ref a1] h = R_J13_init_2 d 0 [some (.ref a0), some (.ref a1)] [] h := exec_eq (cd := k_J13_init_2) (hd := (fun _ _ => some none)) (L := 2) rfl rfl rfl
theorem e_J13_init_2_N {d : Nat} {a0 : Nat} {h : AH} : exec tTab (d + 1) K_J13_init_2 [.ref a0, .null] h = R_J13_init_2 d 0 [some (.ref a0), some (.null)] [] h := exec_eq (cd := k_J13_init_2) (hd := (fun _ _ => some none)) (L := 2) rfl rfl rfl
/-- java/lang/Throwable.<init>(Ljava/lang/String;Ljava/lang/Throwable;ZZ)V -/
abbrev K_J13_init_3 : Nat := 294
noncomputable def R_J13_init_3 (d pc : Nat) (ls : ALs) (st : List Value) (h : AH) : Option (AOut × AH) := aR (exec tTab d) k_J13_init_3 (fun _ _ => some none) (pc, ls, st, h)
theorem r_J13_init_3_0 {d : Nat} {a0 : Nat} {l1 l2 l3 l4 : Option Value} {h : AH} : R_J13_init_3 d 0 [some (.ref a0), l1, l2, l3, l4] [] h = (hpf h [17] a0 0 (.ref a0)).bind fun h1 => R_J13_init_3 d 9 [some (.ref a0), l1, l2, l3, l4] [] h1 := by
  refine (p_aload rfl rfl).trans ?_
  refine (s_objI rfl rfl).trans ?_
  refine (p_aload rfl rfl).trans ?_
  refine (p_aload rfl rfl).trans ?_
  exact s_putT rfl rfl
theorem r_J13_init_3_9 {d : Nat} {a0 : Nat} {l1 l2 l3 l4 : Option Value} {h : AH} : R_J13_init_3 d 9 [some (.ref a0), l1, l2, l3, l4] [] h = R_J13_init_3 d 13 [some (.ref a0), l1, l2, l3, l4] [h.2.2.2 6, .ref a0] h := by
  refine (p_aload rfl rfl).trans ?_
  exact p_stat rfl
theorem r_J13_init_3_13 {d : Nat} {b0 b1 : Nat} {l0 l1 l2 l3 l4 : Option Value} {h : AH} : R_J13_init_3 d 13 [l0, l1, l2, l3, l4] [.ref b1, .ref b0] h = (hpf h [17] b0 1 (.ref b1)).bind fun h1 => R_J13_init_3 d 16 [l0, l1, l2, l3, l4] [] h1 := s_putT rfl rfl
theorem r_J13_init_3_13N {d : Nat} {b0 : Nat} {l0 l1 l2 l3 l4 : Option Value} {h : AH} : R_J13_init_3 d 13 [l0, l1, l2, l3, l4] [.null, .ref b0] h = (hpf h [17] b0 1 (.null)).bind fun h1 => R_J13_init_3 d 16 [l0, l1, l2, l3, l4] [] h1 := s_putT rfl rfl
theorem r_J13_init_3_16 {d : Nat} {a0 : Nat} {l1 l2 l3 l4 : Option Value} {h : AH} : R_J13_init_3 d 16 [some (.ref a0), l1, l2, l3, l4] [] h = R_J13_init_3 d 20 [some (.ref a0), l1, l2, l3, l4] [h.2.2.2 7, .ref a0] h := by
  refine (p_aload rfl rfl).trans ?_
  exact p_stat rfl
theorem r_J13_init_3_20 {d : Nat} {b0 b1 : Nat} {l0 l1 l2 l3 l4 : Option Value} {h : AH} : R_J13_init_3 d 20 [l0, l1, l2, l3, l4] [.ref b1, .ref b0] h = (hpf h [17] b0 2 (.ref b1)).bind fun h1 => R_J13_init_3 d 23 [l0, l1, l2, l3, l4] [] h1 := s_putT rfl rfl
theorem r_J13_init_3_20N {d : Nat} {b0 : Nat} {l0 l1 l2 l3 l4 : Option Value} {h : AH} : R_J13_init_3 d 20 [l0, l1, l2, l3, l4] [.null, .ref b0] h = (hpf h [17] b0 2 (.null)).bind fun h1 => R_J13_init_3 d 23 [l0, l1, l2, l3, l4] [] h1 := s_putT rfl rfl
theorem r_J13_init_3_23 {d : Nat} {x4 : Int32} {l0 l1 l2 l3 : Option Value} {h : AH} : R_J13_init_3 d 23 [l0, l1, l2, l3, some (.int (x4))] [] h = if x4 = 0 then R_J13_init_3 d 36 [l0, l1, l2, l3, some (.int (x4))] [] h else R_J13_init_3 d 28 [l0, l1, l2, l3, some (.int (x4))] [] h := by
  refine (p_iload rfl rfl).trans ?_
  exact (s_if (g := (fun x => decide (x = 0))) (t := 36) (nx := 28) rfl).trans bif_dec
theorem r_J13_init_3_36 {d : Nat} {a0 : Nat} {l1 l2 l3 l4 : Option Value} {h : AH} : R_J13_init_3 d 36 [some (.ref a0), l1, l2, l3, l4] [] h = (hpf h [17] a0 1 (.null)).bind fun h1 => R_J13_init_3 d 41 [some (.ref a0), l1, l2, l3, l4] [] h1 := by
  refine (p_aload rfl rfl).trans ?_
  refine (p_const rfl).trans ?_
  exact s_putT rfl rfl
theorem r_J13_init_3_41 {d : Nat} {a0 a1 : Nat} {l2 l3 l4 : Option Value} {h : AH} : R_J13_init_3 d 41 [some (.ref a0), some (.ref a1), l2, l3, l4] [] h = (hpf h [17] a0 3 (.ref a1)).bind fun h1 => R_J13_init_3 d 46 [some (.ref a0), some (.ref a1), l2, l3, l4] [] h1 := by
  refine (p_aload rfl rfl).trans ?_
  refine (p_aload rfl rfl).trans ?_
  exact s_putT rfl rfl
theorem r_J13_init_3_41L1 {d : Nat} {a0 : Nat} {l2 l3 l4 : Option Value} {h : AH} : R_J13_init_3 d 41 [some (.ref a0), some (.null), l2, l3, l4] [] h = (hpf h [17] a0 3 (.null)).bind fun h1 => R_J13_init_3 d 46 [some (.ref a0), some (.null), l2, l3, l4] [] h1 := by
  refine (p_aload rfl rfl).trans ?_
  refine (p_aloadN rfl rfl).trans ?_
  exact s_putT rfl rfl
theorem r_J13_init_3_46 {d : Nat} {a0 a2 : Nat} {l1 l3 l4 : Option Value} {h : AH} : R_J13_init_3 d 46 [some (.ref a0), l1, some (.ref a2), l3, l4] [] h = (hpf h [17] a0 0 (.ref a2)).bind fun h1 => R_J13_init_3 d 51 [some (.ref a0), l1, some (.ref a2), l3, l4] [] h1 := by
  refine (p_aload rfl rfl).trans ?_
  refine (p_aload rfl rfl).trans ?_
  exact s_putT rfl rfl
theorem r_J13_init_3_46L2 {d : Nat} {a0 : Nat} {l1 l3 l4 : Option Value} {h : AH} : R_J13_init_3 d 46 [some (.ref a0), l1, some (.null), l3, l4] [] h = (hpf h [17] a0 0 (.null)).bind fun h1 => R_J13_init_3 d 51 [some (.ref a0), l1, some (.null), l3, l4] [] h1 := by
  refine (p_aload rfl rfl).trans ?_
  refine (p_aloadN rfl rfl).trans ?_
  exact s_putT rfl rfl
theorem r_J13_init_3_51 {d : Nat} {x3 : Int32} {l0 l1 l2 l4 : Option Value} {h : AH} : R_J13_init_3 d 51 [l0, l1, l2, some (.int (x3)), l4] [] h = if ¬ x3 = 0 then R_J13_init_3 d 60 [l0, l1, l2, some (.int (x3)), l4] [] h else R_J13_init_3 d 55 [l0, l1, l2, some (.int (x3)), l4] [] h := by
  refine (p_iload rfl rfl).trans ?_
  exact (s_if (g := (fun x => decide (¬ x = 0))) (t := 60) (nx := 55) rfl).trans bif_dec
theorem r_J13_init_3_60 {d : Nat} {l0 l1 l2 l3 l4 : Option Value} {h : AH} : R_J13_init_3 d 60 [l0, l1, l2, l3, l4] [] h = some (.inl none, h) := s_vret rfl
theorem r_J13_init_3_55 {d : Nat} {a0 : Nat} {l1 l2 l3 l4 : Option Value} {h : AH} : R_J13_init_3 d 55 [some (.ref a0), l1, l2, l3, l4] [] h = (hpf h [17] a0 2 (.null)).bind fun h1 => R_J13_init_3 d 60 [some (.ref a0), l1, l2, l3, l4] [] h1 := by
  refine (p_aload rfl rfl).trans ?_
  refine (p_const rfl).trans ?_
  exact s_putT rfl rfl
theorem e_J13_init_3 {d : Nat} {a0 a1 a2 : Nat} {x3 x4 : Int32} {h : AH} : exec tTab (d + 1) K_J13_init_3 [.ref a0, .ref a1, .ref a2, .int x3, .int x4] h = R_J13_init_3 d 0 [some (.ref a0), some (.ref a1), some (.ref a2), some (.int x3), some (.int x4)] [] h := exec_eq (cd := k_J13_init_3) (hd := (fun _ _ => some none)) (L := 5) rfl rfl rfl
theorem e_J13_init_3_N {d : Nat} {a0 : Nat} {x3 x4 : Int32} {h : AH} : exec tTab (d + 1) K_J13_init_3 [.ref a0, .null, .null, .int x3, .int x4] h = R_J13_init_3 d 0 [some (.ref a0), some (.null), some (.null), some (.int x3), some (.int x4)] [] h := exec_eq (cd := k_J13_init_3) (hd := (fun _ _ => some none)) (L := 5) rfl rfl rfl
/-- java/lang/Exception.<init>(Ljava/lang/String;)V -/
abbrev K_J14_init : Nat := 295
noncomputable def R_J14_init (d pc : Nat) (ls : ALs) (st : List Value) (h : AH) : Option (AOut × AH) := aR (exec tTab d) k_J14_init (fun _ _ => some none) (pc, ls, st, h)
theorem r_J14_init_0 {d : Nat} {a0 a1 : Nat} {h : AH} : R_J14_init d 0 [some (.ref a0), some (.ref a1)] [] h = aK (exec tTab d 293 [.ref a0, .ref a1] h) (fun v h1 => R_J14_init d 5 [some (.ref a0), some (.ref a1)] (v.toList ++ []) h1) (fun E h1 => some (.inr E, h1)) := by
  refine (p_aload rfl rfl).trans ?_
  refine (p_aload rfl rfl).trans ?_
  exact s_callI (y := 293) (n := 1) (b := a0) (rest := []) rfl rfl rfl
theorem r_J14_init_0L1 {d : Nat} {a0 : Nat} {h : AH} : R_J14_init d 0 [some (.ref a0), some (.null)] [] h = aK (exec tTab d 293 [.ref a0, .null] h) (fun v h1 => R_J14_init d 5 [some (.ref a0), some (.null)] (v.toList ++ []) h1) (fun E h1 => some (.inr E, h1)) := by
  refine (p_aload rfl rfl).trans ?_
  refine (p_aloadN rfl rfl).trans ?_
  exact s_callI (y := 293) (n := 1) (b := a0) (rest := []) rfl rfl rfl
theorem r_J14_init_5 {d : Nat} {l0 l1 : Option Value} {h : AH} : R_J14_init d 5 [l0, l1] [] h = some (.inl none, h) := s_vret rfl
theorem e_J14_init {d : Nat} {a0 a1 : Nat} {h : AH} : exec tTab (d + 1) K_J14_init [.ref a0, .ref a1] h = R_J14_init d 0 [some (.ref a0), some (.ref a1)] [] h := exec_eq (cd := k_J14_init) (hd := (fun _ _ => some none)) (L := 2) rfl rfl rfl
theorem e_J14_init_N {d : Nat} {a0 : Nat} {h : AH} : exec tTab (d + 1) K_J14_init [.ref a0, .null] h = R_J14_init d 0 [some (.ref a0), some (.null)] [] h := exec_eq (cd := k_J14_init) (hd := (fun _ _ => some none)) (L := 2) rfl rfl rfl
/-- java/lang/Exception.<init>(Ljava/lang/String;Ljava/lang/Throwable;ZZ)V -/
abbrev K_J14_init_2 : Nat := 296
noncomputable def R_J14_init_2 (d pc : Nat) (ls : ALs) (st : List Value) (h : AH) : Option (AOut × AH) := aR (exec tTab d) k_J14_init_2 (fun _ _ => some none) (pc, ls, st, h)
theorem r_J14_init_2_0 {d : Nat} {a0 a1 a2 : Nat} {x3 x4 : Int32} {h : AH} : R_J14_init_2 d 0 [some (.ref a0), some (.ref a1), some (.ref a2), some (.int (x3)), some (.int (x4))] [] h = aK (exec tTab d 294 [.ref a0, .ref a1, .ref a2, .int (x3), .int (x4)] h) (fun v h1 => R_J14_init_2 d 9 [some (.ref a0), some (.ref a1), some (.ref a2), some (.int (x3)), some (.int (x4))] (v.toList ++ []) h1) (fun E h1 => some (.inr E, h1)) := by
  refine (p_aload rfl rfl).trans ?_
  refine (p_aload rfl rfl).trans ?_
  refine (p_aload rfl rfl).trans ?_
  refine (p_iload rfl rfl).trans ?_
  refine (p_iload rfl rfl).trans ?_
  exact s_callI (y := 294) (n := 4) (b := a0) (rest := []) rfl rfl rfl
theorem r_J14_init_2_0L1 {d : Nat} {a0 a2 : Nat} {x3 x4 : Int32} {h : AH} : R_J14_init_2 d 0 [some (.ref a0), some (.null), some (.ref a2), some (.int (x3)), some (.int (x4))] [] h = aK (exec tTab d 294 [.ref a0, .null, .ref a2, .int (x3), .int (x4)] h) (fun v h1 => R_J14_init_2 d 9 [some (.ref a0), some (.null), some (.ref a2), some (.int (x3)), some (.int (x4))] (v.toList ++ []) h1) (fun E h1 => some (.inr E, h1)) := by
  refine (p_aload rfl rfl).trans ?_
  refine (p_aloadN rfl rfl).trans ?_
  refine (p_aload rfl rfl).trans ?_
  refine (p_iload rfl rfl).trans ?_
  refine (p_iload rfl rfl).trans ?_
  exact s_callI (y := 294) (n := 4) (b := a0) (rest := []) rfl rfl rfl
theorem r_J14_init_2_0L2 {d : Nat} {a0 a1 : Nat} {x3 x4 : Int32} {h : AH} : R_J14_init_2 d 0 [some (.ref a0), some (.ref a1), some (.null), some (.int (x3)), some (.int (x4))] [] h = aK (exec tTab d 294 [.ref a0, .ref a1, .null, .int (x3), .int (x4)] h) (fun v h1 => R_J14_init_2 d 9 [some (.ref a0), some (.ref a1), some (.null), some (.int (x3)), some (.int (x4))] (v.toList ++ []) h1) (fun E h1 => some (.inr E, h1)) := by
  refine (p_aload rfl rfl).trans ?_
  refine (p_aload rfl rfl).trans ?_
  refine (p_aloadN rfl rfl).trans ?_
  refine (p_iload rfl rfl).trans ?_
  refine (p_iload rfl rfl).trans ?_
  exact s_callI (y := 294) (n := 4) (b := a0) (rest := []) rfl rfl rfl
theorem r_J14_init_2_9 {d : Nat} {l0 l1 l2 l3 l4 : Option Value} {h : AH} : R_J14_init_2 d 9 [l0, l1, l2, l3, l4] [] h = some (.inl none, h) := s_vret rfl
theorem e_J14_init_2 {d : Nat} {a0 a1 a2 : Nat} {x3 x4 : Int32} {h : AH} : exec tTab (d + 1) K_J14_init_2 [.ref a0, .ref a1, .ref a2, .int x3, .int x4] h = R_J14_init_2 d 0 [some (.ref a0), some (.ref a1), some (.ref a2), some (.int x3), some (.int x4)] [] h := exec_eq (cd := k_J14_init_2) (hd := (fun _ _ => some none)) (L := 5) rfl rfl rfl
theorem e_J14_init_2_N {d : Nat} {a0 : Nat} {x3 x4 : Int32} {h : AH} : exec tTab (d + 1) K_J14_init_2 [.ref a0, .null, .null, .int x3, .int x4] h = R_J14_init_2 d 0 [some (.ref a0), some (.null), some (.null), some (.int x3), some (.int x4)] [] h := exec_eq (cd := k_J14_init_2) (hd := (fun _ _ => some none)) (L := 5) rfl rfl rfl
/-- java/lang/RuntimeException.<init>(Ljava/lang/String;)V -/
abbrev K_J15_init : Nat := 298
noncomputable def R_J15_init (d pc : Nat) (ls : ALs) (st : List Value) (h : AH) : Option (AOut × AH) := aR (exec tTab d) k_J15_init (fun _ _ => some none) (pc, ls, st, h)
theorem r_J15_init_0 {d : Nat} {a0 a1 : Nat} {h : AH} : R_J15_init d 0 [some (.ref a0), some (.ref a1)] [] h = aK (exec tTab d 295 [.ref a0, .ref a1] h) (fun v h1 => R_J15_init d 5 [some (.ref a0), some (.ref a1)] (v.toList ++ []) h1) (fun E h1 => some (.inr E, h1)) := by
  refine (p_aload rfl rfl).trans ?_
  refine (p_aload rfl rfl).trans ?_
  exact s_callI (y := 295) (n := 1) (b := a0) (rest := []) rfl rfl rfl
theorem r_J15_init_0L1 {d : Nat} {a0 : Nat} {h : AH} : R_J15_init d 0 [some (.ref a0), some (.null)] [] h = aK (exec tTab d 295 [.ref a0, .null] h) (fun v h1 => R_J15_init d 5 [some (.ref a0), some (.null)] (v.toList ++ []) h1) (fun E h1 => some (.inr E, h1)) := by
  refine (p_aload rfl rfl).trans ?_
  refine (p_aloadN rfl rfl).trans ?_
  exact s_callI (y := 295) (n := 1) (b := a0) (rest := []) rfl rfl rfl
theorem r_J15_init_5 {d : Nat} {l0 l1 : Option Value} {h : AH} : R_J15_init d 5 [l0, l1] [] h = some (.inl none, h) := s_vret rfl
theorem e_J15_init {d : Nat} {a0 a1 : Nat} {h : AH} : exec tTab (d + 1) K_J15_init [.ref a0, .ref a1] h = R_J15_init d 0 [some (.ref a0), some (.ref a1)] [] h := exec_eq (cd := k_J15_init) (hd := (fun _ _ => some none)) (L := 2) rfl rfl rfl
theorem e_J15_init_N {d : Nat} {a0 : Nat} {h : AH} : exec tTab (d + 1) K_J15_init [.ref a0, .null] h = R_J15_init d 0 [some (.ref a0), some (.null)] [] h := exec_eq (cd := k_J15_init) (hd := (fun _ _ => some none)) (L := 2) rfl rfl rfl
/-- java/lang/IllegalArgumentException.<init>(Ljava/lang/String;)V -/
abbrev K_J16_init : Nat := 300
noncomputable def R_J16_init (d pc : Nat) (ls : ALs) (st : List Value) (h : AH) : Option (AOut × AH) := aR (exec tTab d) k_J16_init (fun _ _ => some none) (pc, ls, st, h)
theorem r_J16_init_0 {d : Nat} {a0 a1 : Nat} {h : AH} : R_J16_init d 0 [some (.ref a0), some (.ref a1)] [] h = aK (exec tTab d 298 [.ref a0, .ref a1] h) (fun v h1 => R_J16_init d 5 [some (.ref a0), some (.ref a1)] (v.toList ++ []) h1) (fun E h1 => some (.inr E, h1)) := by
  refine (p_aload rfl rfl).trans ?_
  refine (p_aload rfl rfl).trans ?_
  exact s_callI (y := 298) (n := 1) (b := a0) (rest := []) rfl rfl rfl
theorem r_J16_init_0L1 {d : Nat} {a0 : Nat} {h : AH} : R_J16_init d 0 [some (.ref a0), some (.null)] [] h = aK (exec tTab d 298 [.ref a0, .null] h) (fun v h1 => R_J16_init d 5 [some (.ref a0), some (.null)] (v.toList ++ []) h1) (fun E h1 => some (.inr E, h1)) := by
  refine (p_aload rfl rfl).trans ?_
  refine (p_aloadN rfl rfl).trans ?_
  exact s_callI (y := 298) (n := 1) (b := a0) (rest := []) rfl rfl rfl
theorem r_J16_init_5 {d : Nat} {l0 l1 : Option Value} {h : AH} : R_J16_init d 5 [l0, l1] [] h = some (.inl none, h) := s_vret rfl
theorem e_J16_init {d : Nat} {a0 a1 : Nat} {h : AH} : exec tTab (d + 1) K_J16_init [.ref a0, .ref a1] h = R_J16_init d 0 [some (.ref a0), some (.ref a1)] [] h := exec_eq (cd := k_J16_init) (hd := (fun _ _ => some none)) (L := 2) rfl rfl rfl
theorem e_J16_init_N {d : Nat} {a0 : Nat} {h : AH} : exec tTab (d + 1) K_J16_init [.ref a0, .null] h = R_J16_init d 0 [some (.ref a0), some (.null)] [] h := exec_eq (cd := k_J16_init) (hd := (fun _ _ => some none)) (L := 2) rfl rfl rfl
/-- java/lang/Integer.bitCount(I)I -/
abbrev K_J17_bitCount : Nat := 302
noncomputable def R_J17_bitCount (d pc : Nat) (ls : ALs) (st : List Value) (h : AH) : Option (AOut × AH) := aR (exec tTab d) k_J17_bitCount (fun _ _ => some none) (pc, ls, st, h)
theorem r_J17_bitCount_0 {d : Nat} {x0 : Int32} {h : AH} : R_J17_bitCount d 0 [some (.int (x0))] [] h = some (.inl (some (.int ((((((((x0 - (((x0.toUInt32 >>> ((nI 1).toUInt32 &&& Int32.toUInt32 31)).toInt32) &&& (1431655765 : Int32))) &&& (858993459 : Int32)) + ((((x0 - (((x0.toUInt32 >>> ((nI 1).toUInt32 &&& Int32.toUInt32 31)).toInt32) &&& (1431655765 : Int32))).toUInt32 >>> ((nI 2).toUInt32 &&& Int32.toUInt32 31)).toInt32) &&& (858993459 : Int32))) + (((((x0 - (((x0.toUInt32 >>> ((nI 1).toUInt32 &&& Int32.toUInt32 31)).toInt32) &&& (1431655765 : Int32))) &&& (858993459 : Int32)) + ((((x0 - (((x0.toUInt32 >>> ((nI 1).toUInt32 &&& Int32.toUInt32 31)).toInt32) &&& (1431655765 : Int32))).toUInt32 >>> ((nI 2).toUInt32 &&& Int32.toUInt32 31)).toInt32) &&& (858993459 : Int32))).toUInt32 >>> ((nI 4).toUInt32 &&& Int32.toUInt32 31)).toInt32)) &&& (252645135 : Int32)) + (((((((x0 - (((x0.toUInt32 >>> ((nI 1).toUInt32 &&& Int32.toUInt32 31)).toInt32) &&& (1431655765 : Int32))) &&& (858993459 : Int32)) + ((((x0 - (((x0.toUInt32 >>> ((nI 1).toUInt32 &&& Int32.toUInt32 31)).toInt32) &&& (1431655765 : Int32))).toUInt32 >>> ((nI 2).toUInt32 &&& Int32.toUInt32 31)).toInt32) &&& (858993459 : Int32))) + (((((x0 - (((x0.toUInt32 >>> ((nI 1).toUInt32 &&& Int32.toUInt32 31)).toInt32) &&& (1431655765 : Int32))) &&& (858993459 : Int32)) + ((((x0 - (((x0.toUInt32 >>> ((nI 1).toUInt32 &&& Int32.toUInt32 31)).toInt32) &&& (1431655765 : Int32))).toUInt32 >>> ((nI 2).toUInt32 &&& Int32.toUInt32 31)).toInt32) &&& (858993459 : Int32))).toUInt32 >>> ((nI 4).toUInt32 &&& Int32.toUInt32 31)).toInt32)) &&& (252645135 : Int32)).toUInt32 >>> ((nI 8).toUInt32 &&& Int32.toUInt32 31)).toInt32)) + ((((((((x0 - (((x0.toUInt32 >>> ((nI 1).toUInt32 &&& Int32.toUInt32 31)).toInt32) &&& (1431655765 : Int32))) &&& (858993459 : Int32)) + ((((x0 - (((x0.toUInt32 >>> ((nI 1).toUInt32 &&& Int32.toUInt32 31)).toInt32) &&& (1431655765 : Int32))).toUInt32 >>> ((nI 2).toUInt32 &&& Int32.toUInt32 31)).toInt32) &&& (858993459 : Int32))) + (((((x0 - (((x0.toUInt32 >>> ((nI 1).toUInt32 &&& Int32.toUInt32 31)).toInt32) &&& (1431655765 : Int32))) &&& (858993459 : Int32)) + ((((x0 - (((x0.toUInt32 >>> ((nI 1).toUInt32 &&& Int32.toUInt32 31)).toInt32) &&& (1431655765 : Int32))).toUInt32 >>> ((nI 2).toUInt32 &&& Int32.toUInt32 31)).toInt32) &&& (858993459 : Int32))).toUInt32 >>> ((nI 4).toUInt32 &&& Int32.toUInt32 31)).toInt32)) &&& (252645135 : Int32)) + (((((((x0 - (((x0.toUInt32 >>> ((nI 1).toUInt32 &&& Int32.toUInt32 31)).toInt32) &&& (1431655765 : Int32))) &&& (858993459 : Int32)) + ((((x0 - (((x0.toUInt32 >>> ((nI 1).toUInt32 &&& Int32.toUInt32 31)).toInt32) &&& (1431655765 : Int32))).toUInt32 >>> ((nI 2).toUInt32 &&& Int32.toUInt32 31)).toInt32) &&& (858993459 : Int32))) + (((((x0 - (((x0.toUInt32 >>> ((nI 1).toUInt32 &&& Int32.toUInt32 31)).toInt32) &&& (1431655765 : Int32))) &&& (858993459 : Int32)) + ((((x0 - (((x0.toUInt32 >>> ((nI 1).toUInt32 &&& Int32.toUInt32 31)).toInt32) &&& (1431655765 : Int32))).toUInt32 >>> ((nI 2).toUInt32 &&& Int32.toUInt32 31)).toInt32) &&& (858993459 : Int32))).toUInt32 >>> ((nI 4).toUInt32 &&& Int32.toUInt32 31)).toInt32)) &&& (252645135 : Int32)).toUInt32 >>> ((nI 8).toUInt32 &&& Int32.toUInt32 31)).toInt32)).toUInt32 >>> ((nI 16).toUInt32 &&& Int32.toUInt32 31)).toInt32)) &&& (nI 63)))), h) := by
  refine (p_iload rfl rfl).trans ?_
  refine (p_iload rfl rfl).trans ?_
  refine (p_const rfl).trans ?_
  refine (p_bin rfl).trans ?_
  refine (p_const rfl).trans ?_
  refine (p_bin rfl).trans ?_
  refine (p_bin rfl).trans ?_
  refine (p_istore rfl rfl rfl).trans ?_
  refine (p_iload rfl rfl).trans ?_
  refine (p_const rfl).trans ?_
  refine (p_bin rfl).trans ?_
  refine (p_iload rfl rfl).trans ?_
  refine (p_const rfl).trans ?_
  refine (p_bin rfl).trans ?_
  refine (p_const rfl).trans ?_
  refine (p_bin rfl).trans ?_
  refine (p_bin rfl).trans ?_
  refine (p_istore rfl rfl rfl).trans ?_
  refine (p_iload rfl rfl).trans ?_
  refine (p_iload rfl rfl).trans ?_
  refine (p_const rfl).trans ?_
  refine (p_bin rfl).trans ?_
  refine (p_bin rfl).trans ?_
  refine (p_const rfl).trans ?_
  refine (p_bin rfl).trans ?_
  refine (p_istore rfl rfl rfl).trans ?_
  refine (p_iload rfl rfl).trans ?_
  refine (p_iload rfl rfl).trans ?_
  refine (p_const rfl).trans ?_
  refine (p_bin rfl).trans ?_
  refine (p_bin rfl).trans ?_
  refine (p_istore rfl rfl rfl).trans ?_
  refine (p_iload rfl rfl).trans ?_
  refine (p_iload rfl rfl).trans ?_
  refine (p_const rfl).trans ?_
  refine (p_bin rfl).trans ?_
  refine (p_bin rfl).trans ?_
  refine (p_istore rfl rfl rfl).trans ?_
  refine (p_iload rfl rfl).trans ?_
  refine (p_const rfl).trans ?_
  refine (p_bin rfl).trans ?_
  exact s_iretT rfl rfl
theorem e_J17_bitCount {d : Nat} {x0 : Int32} {h : AH} : exec tTab (d + 1) K_J17_bitCount [.int x0] h = R_J17_bitCount d 0 [some (.int x0)] [] h := exec_eq (cd := k_J17_bitCount) (hd := (fun _ _ => some none)) (L := 1) rfl rfl rfl
/-- java/lang/Enum.ordinal()I -/
abbrev K_J18_ordinal : Nat := 304
noncomputable def R_J18_ordinal (d pc : Nat) (ls : ALs) (st : List Value) (h : AH) : Option (AOut × AH) := aR (exec tTab d) k_J18_ordinal (fun _ _ => some none) (pc, ls, st, h)
theorem r_J18_ordinal_0 {d : Nat} {a0 : Nat} {h : AH} : R_J18_ordinal d 0 [some (.ref a0)] [] h = (hgf h [26] a0 0).bind fun v => R_J18_ordinal d 4 [some (.ref a0)] [v] h := by
  refine (p_aload rfl rfl).trans ?_
  exact s_getf rfl
theorem r_J18_ordinal_4 {d : Nat} {s0 : Int32} {l0 : Option Value} {h : AH} : R_J18_ordinal d 4 [l0] [.int (s0)] h = some (.inl (some (.int (s0))), h) := s_iretT rfl rfl
theorem e_J18_ordinal {d : Nat} {a0 : Nat} {h : AH} : exec tTab (d + 1) K_J18_ordinal [.ref a0] h = R_J18_ordinal d 0 [some (.ref a0)] [] h := exec_eq (cd := k_J18_ordinal) (hd := (fun _ _ => some none)) (L := 1) rfl rfl rfl
