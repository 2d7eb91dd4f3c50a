/-! ===== SOUNDNESS: fields, statics, arrays ===== -/
/-- the link of a field: plain, or of a nest mate -/
def fLink (own : String) (index : Nat) (ref name desc : String) : Prop := Cond.fieldLink own index ref name desc ∈ lw_all ∨ ∃ host, Cond.fieldLinkNest own index ref name desc host ∈ lw_tbl
def fldOK (cis : List Nat) (k : Nat) (ref name desc : String) : Bool := cis.all fun ci => match clR[ci]? with
  | some r => Nat.blt k r.2.2 && (r.2.1 k).1 == ref && (r.2.1 k).2.1 == name && (r.2.1 k).2.2.1 == desc
  | none => false
theorem fldOK_at {cis : List Nat} {k : Nat} {ref name desc : String} (h : fldOK cis k ref name desc = true) {ci : Nat} (hc : cis.contains ci = true) : ∃ r, clR[ci]? = some r ∧ k < r.2.2 ∧ (r.2.1 k).1 = ref ∧ (r.2.1 k).2.1 = name ∧ (r.2.1 k).2.2.1 = desc := by
  have h1 := List.all_eq_true.mp h ci (List.contains_iff_mem.mp hc)
  split at h1
  · next r hr =>
    simp only [Bool.and_eq_true, beq_iff_eq, Nat.blt_eq] at h1
    exact ⟨r, hr, h1.1.1.1, h1.1.1.2, h1.1.2, h1.2⟩
  · cases h1
theorem clR_T {ci : Nat} {r : vw_C} (h : clT[ci]? = some r) : clR[ci]? = some r := by
  have hl : ci < clT.length := (List.getElem?_eq_some_iff.mp h).1
  show (clT ++ _)[ci]? = _
  rw [List.getElem?_append_left hl]
  exact h
section
variable {γ : AG} {q : AMi} {pc nx : Nat}
theorem aGetf {x : MC} {d : Nat} (C : aCx γ x q d) {index : Nat} {ref name desc : String} (hw : fLink q.1.cls index ref name desc) {H : Heap} {locs : List Loc} {cells slots : Nat} {Q : State → Prop}
    {cf i : Nat} {k : Class} {f : Field} (hi : (xs x).fieldFound? ref name desc = some (cf, k, i, f)) (hst : f.isStatic = false) {a : Addr} {cell : Cell} {v : Value} (hcell : H[a]? = some cell) (hknown : cell.vm ≠ .unknown) (hslot : cell.slots[f.slot]? = some v)
    {A : Array Slot} {rest : List Value} (hdg : decode q.2.1 pc = .ok (.getfield index, 3)) (kk : aW x H locs cells slots Q (F0 (xm x) (pc + 3) A (v :: rest))) : aW x H locs cells slots Q (F0 (xm x) pc A (.ref a :: rest)) := by
  rcases hw with hw | ⟨host, hw⟩
  · exact W.getf C.1 C.2.1 C.2.2.2.1 (C.2.2.2.2.1 _ hw) hi hst hcell hknown hslot rfl rfl hdg kk
  · exact va_Wgetf C.1 C.2.1 C.2.2.2.1 (va_Nw.use rfl (C.2.2.2.2.2.1.2.1 _ hw rfl)) hi hst hcell hknown hslot rfl rfl hdg kk
/-- the field as the reference names it is the declared one -/
def FSame (γ : AG) (q : AMi) (decl ref name desc : String) : Prop := ∀ (x : MC) (d : Nat), aCx γ x q d → ∀ y, (xs x).fieldFound? decl name desc = some y → (xs x).fieldFound? ref name desc = some y
theorem fs_rf {ref name desc : String} : FSame γ q ref ref name desc := fun _ _ _ _ h => h
theorem fs_w {decl ref name desc : String} (h : Cond.sameField ref decl name desc ∈ lw_all) : FSame γ q decl ref name desc := fun _ _ C y hy => u_same (C.2.2.2.2.1 _ h) y hy
theorem hgf_inv {h : AH} {cis : List Nat} {a k : Nat} {v : Value} (hv : hgf h cis a k = some v) : ∃ b ci fs, h.1 a = some (b, .inr (ci, fs)) ∧ cis.contains ci = true ∧ fs[k]? = some v := by
  unfold hgf at hv
  split at hv
  · next b ci fs e =>
    cases hc : cis.contains ci with
    | false => rw [hc] at hv; cases hv
    | true => rw [hc] at hv; exact ⟨b, ci, fs, e, hc, hv⟩
  · cases hv
theorem ok_getf {cis : List Nat} {k index : Nat} {decl ref name desc : String} (hF : fldOK cis k decl name desc = true) (hsm : FSame γ q decl ref name desc) (hw : fLink q.1.cls index ref name desc) (hdg : decode q.2.1 pc = .ok (.getfield index, 3)) (hn : pc + 3 = nx) : PfOK γ q pc (f_getf cis k nx) := by
  intro x k0 d C ls st h r hr H locs cells slots A Q I kk
  unfold f_getf at hr
  split at hr
  · next a rest =>
    split at hr
    · next v hv =>
      cases hr
      subst hn
      obtain ⟨b, ci, fs, hm, hc, hf⟩ := hgf_inv hv
      obtain ⟨r, hr1, hk, e1, e2, e3⟩ := fldOK_at hF hc
      have hat := I.1.2.2.1 a _ hm
      cases b with
      | true =>
        obtain ⟨-, r', hr', cell, q1, q2, q3, q4⟩ := hat
        have hrr : r' = r := Option.some.inj ((clR_T hr').symm.trans hr1)
        subst hrr
        obtain ⟨hS, hfc, kC, hkC, hkind⟩ := C.2.2.2.2.2.1.1.1 ci _ hr'
        obtain ⟨cf, kf, fi, f, hi, hsl⟩ := hS k hk
        have hst := (u_facts hfc hkC (u_lays C.2.2.2.2.1 (cl_in _ (List.mem_of_getElem? hr')) hk) hi).1
        rw [e1, e2, e3] at hi
        exact aGetf C hw (hsm x _ C _ hi) hst q1 (by rw [q3]; exact fun z => by cases z) (by rw [hsl, q4 k hk]; exact congrArg some (by show fs.getD k .null = v; rw [List.getD_eq_getElem?_getD, hf]; rfl)) hdg (kk A I.2.2.2.2)
      | false =>
        obtain ⟨-, r', cell, hr', q1, q2, q3, q4, q5⟩ := hat
        have hrr : r' = r := Option.some.inj (hr'.symm.trans hr1)
        subst hrr
        obtain ⟨cf, kf, fi, f, hi, hst, hsl⟩ := q5 k v hf
        rw [e1, e2, e3] at hi
        exact aGetf C hw (hsm x _ C _ hi) hst q1 q2 hsl hdg (kk A I.2.2.2.2)
    · cases hr
  · cases hr
theorem ok_stat {i index : Nat} {C0 n d ref : String} (hk : γ.2.2.2.2.2[i]? = some (C0, n, d, 0)) (hw : fLink q.1.cls index ref n d) (he : C0 = ref) (hdg : decode q.2.1 pc = .ok (.getstatic index, 3)) (hn : pc + 3 = nx) : PfOK γ q pc (f_stat i nx) := by
  intro x k0 d1 C ls st h r hr H locs cells slots A Q I kk
  cases hr
  subst hn he
  obtain ⟨cf, kf, fi, f, a, cell, h1, h2, h3, h4, h5, h6, h7, h8⟩ := I.1.2.2.2.2.1 i _ hk rfl
  have kk := kk A I.2.2.2.2
  rw [I.1.2.2.2.1] at kk
  rcases hw with hw | ⟨host, hw⟩
  · exact W.gets C.1 C.2.1 C.2.2.2.1 (C.2.2.2.2.1 _ hw) h1 h2 h3 h4 h5 (fun e => by rw [e] at h6; cases h6) h7 rfl hdg kk
  · have hZ : va_Z C0 n d (γ.2.2.2.1 i) (fun q => γ.2.2.1 ≤ q) (xs x) (xs x).heap := va_Z.kept (H := H) ⟨cf, kf, fi, f, a, cell, h1, h2, h3, h4, h5, h6, h7, h8⟩ (fun a9 h9 n9 => (I.2.1.2.1 a9 (Nat.lt_of_lt_of_le (Nat.not_le.mp n9) C.2.2.2.2.2.2.2.2.2.2.1) n9).symm)
    exact va_getsN C.1 C.2.1 hZ I.2.1 C.2.2.2.1 (va_Nw.use rfl (C.2.2.2.2.2.1.2.1 _ hw rfl)) (fun _ z => z) hdg kk
theorem ok_ldcS {i index : Nat} {tx dd : String} (hk : γ.2.2.2.2.2[i]? = some (q.1.cls, tx, dd, index + 2)) (hdg : decode q.2.1 pc = .ok (.ldc index, 2)) (hn : pc + 2 = nx) : PfOK γ q pc (f_stat i nx) := by
  intro x k0 d1 C ls st h r hr H locs cells slots A Q I kk
  cases hr
  subst hn
  obtain ⟨a, h1, h2⟩ := C.2.2.2.2.2.1.2.2.2.2.2.2 i _ hk
  have kk := kk A I.2.2.2.2
  rw [I.1.2.2.2.1, h1] at kk
  exact va_ldcS C.1 C.2.1 C.2.2.2.1 h2 hdg kk
theorem ok_ldcM {i index : Nat} {C0 n dd : String} (hk : γ.2.2.2.2.2[i]? = some (C0, n, dd, 1)) (hw : Cond.classLink q.1.cls index C0 ∈ lw_all) (hdg : decode q.2.1 pc = .ok (.ldc index, 2)) (hn : pc + 2 = nx) : PfOK γ q pc (f_stat i nx) := by
  intro x k0 d1 C ls st h r hr H locs cells slots A Q I kk
  cases hr
  subst hn
  obtain ⟨a, h1, h2⟩ := C.2.2.2.2.2.1.2.2.2.2.2.2 i _ hk
  have kk := kk A I.2.2.2.2
  rw [I.1.2.2.2.1, h1] at kk
  exact va_ldcM C.1 C.2.1 C.2.2.2.1 (C.2.2.2.2.1 _ hw) h2 hdg kk
theorem hin_iff {i : Int32} {n : Nat} (h : hin i n = true) : ¬ (i < 0 ∨ n ≤ i.toNatClampNeg) ∧ i.toNatClampNeg < n := by
  unfold hin at h
  simp only [Bool.and_eq_true, Bool.not_eq_true', decide_eq_false_iff_not, Nat.blt_eq] at h
  exact ⟨fun z => z.elim h.1 (fun z => Nat.not_le.mpr h.2 z), h.2⟩
/-- an array cell read, whether it may be written or not -/
theorem arr_at {x : MC} {d : Nat} (C : aCx γ x q d) {a : Nat} {b : Bool} {t n : Nat} {z : (Nat → Int32) ⊕ ((Nat → Int64) ⊕ (Nat → Option Nat))} {H : Heap} (h : a_at γ (xs x) a (b, .inl (t, n, z)) H) :
    ∃ cell ty, tyT[t]? = some ty ∧ H[a]? = some cell ∧ (xs x).isArrayOf cell ty ∧ cell.vm ≠ .unknown ∧ cell.slots.size = n ∧ ∀ j, j < n → cell.slots[j]? = some (aCon z j) := by
  cases b with
  | true =>
    obtain ⟨-, ht, h1⟩ := h
    have hty : tyT[t]? = some tyT[t] := List.getElem?_eq_getElem ht
    exact ⟨_, _, hty, h1, (C.2.2.2.2.2.1.1.2 t _ (atys_at hty)).1 n (aCon z), (by intro e; cases e), arrV_size _ _ _, fun j hj => arrV_read _ _ hj⟩
  | false =>
    obtain ⟨-, cell, ty, h1, h2, h3, h4, h5, h6, -⟩ := h
    exact ⟨cell, ty, h1, h2, h3, h4, h5, h6⟩
theorem bsplit {a b : Bool} (h : (a && b) = true) : a = true ∧ b = true := by cases a <;> cases b <;> first | exact ⟨rfl, rfl⟩ | cases h
theorem hai_inv {h : AH} {t a : Nat} {i v : Int32} (hv : hai h t a i = some v) : ∃ b n f, h.1 a = some (b, .inl (t, n, .inl f)) ∧ hin i n = true ∧ v = f i.toNatClampNeg := by
  unfold hai at hv
  split at hv
  · next b t' n f e =>
    cases hc : Nat.beq t' t && hin i n with
    | false => rw [hc] at hv; cases hv
    | true =>
      rw [hc] at hv
      obtain ⟨h1, h2⟩ := bsplit hc
      have := Nat.eq_of_beq_eq_true h1
      subst this
      exact ⟨b, n, f, e, h2, (Option.some.inj hv).symm⟩
  · cases hv
theorem haj_inv {h : AH} {t a : Nat} {i : Int32} {v : Int64} (hv : haj h t a i = some v) : ∃ b n f, h.1 a = some (b, .inl (t, n, .inr (.inl f))) ∧ hin i n = true ∧ v = f i.toNatClampNeg := by
  unfold haj at hv
  split at hv
  · next b t' n f e =>
    cases hc : Nat.beq t' t && hin i n with
    | false => rw [hc] at hv; cases hv
    | true =>
      rw [hc] at hv
      obtain ⟨h1, h2⟩ := bsplit hc
      have := Nat.eq_of_beq_eq_true h1
      subst this
      exact ⟨b, n, f, e, h2, (Option.some.inj hv).symm⟩
  · cases hv
theorem haq_inv {h : AH} {t a : Nat} {i : Int32} {v : Option Nat} (hv : haq h t a i = some v) : ∃ b n f, h.1 a = some (b, .inl (t, n, .inr (.inr f))) ∧ hin i n = true ∧ v = f i.toNatClampNeg := by
  unfold haq at hv
  split at hv
  · next b t' n f e =>
    cases hc : Nat.beq t' t && hin i n with
    | false => rw [hc] at hv; cases hv
    | true =>
      rw [hc] at hv
      obtain ⟨h1, h2⟩ := bsplit hc
      have := Nat.eq_of_beq_eq_true h1
      subst this
      exact ⟨b, n, f, e, h2, (Option.some.inj hv).symm⟩
  · cases hv
theorem f_iald_inv {t : Nat} {ls : ALs} {st : List Value} {h : AH} {r : Nat × ALs × List Value} (hr : f_iald t nx ls st h = some r) : ∃ i a rest v, st = .int i :: .ref a :: rest ∧ hai h t a i = some v ∧ r = (nx, ls, .int v :: rest) := by
  unfold f_iald at hr
  split at hr
  · split at hr
    · next v hv => exact ⟨_, _, _, v, rfl, hv, (Option.some.inj hr).symm⟩
    · cases hr
  · cases hr
theorem ok_iald (hdg : decode q.2.1 pc = .ok (.iaload, 1)) (hn : pc + 1 = nx) : PfOK γ q pc (f_iald 0 nx) := by
  intro x k0 d C ls st h r hr H locs cells slots A Q I kk
  obtain ⟨i, a, rest, v, rfl, hv, rfl⟩ := f_iald_inv hr
  subst hn
  obtain ⟨b, n, f, hm, hi, rfl⟩ := hai_inv hv
  obtain ⟨cell, ty, g1, g2, g3, g4, g5, g6⟩ := arr_at C (I.1.2.2.1 a _ hm)
  cases g1
  obtain ⟨i1, i2⟩ := hin_iff hi
  exact W.iald C.1 C.2.1 g2 g3 g4 (by rw [g5]; exact i1) (g6 _ i2) rfl rfl hdg (kk A I.2.2.2.2)
theorem ok_bald (hdg : decode q.2.1 pc = .ok (.baload, 1)) (hn : pc + 1 = nx) : PfOK γ q pc (f_iald 1 nx) := by
  intro x k0 d C ls st h r hr H locs cells slots A Q I kk
  obtain ⟨i, a, rest, v, rfl, hv, rfl⟩ := f_iald_inv hr
  subst hn
  obtain ⟨b, n, f, hm, hi, rfl⟩ := hai_inv hv
  obtain ⟨cell, ty, g1, g2, g3, g4, g5, g6⟩ := arr_at C (I.1.2.2.1 a _ hm)
  cases g1
  obtain ⟨i1, i2⟩ := hin_iff hi
  exact W.bald C.1 C.2.1 g2 g3 g4 (by rw [g5]; exact i1) (g6 _ i2) rfl rfl hdg (kk A I.2.2.2.2)
theorem ok_lald (hdg : decode q.2.1 pc = .ok (.laload, 1)) (hn : pc + 1 = nx) : PfOK γ q pc (f_lald 2 nx) := by
  intro x k0 d C ls st h r hr H locs cells slots A Q I kk
  unfold f_lald at hr
  split at hr
  · next i a rest =>
    split at hr
    · next v hv =>
      cases hr
      subst hn
      obtain ⟨b, n, f, hm, hi, rfl⟩ := haj_inv hv
      obtain ⟨cell, ty, g1, g2, g3, g4, g5, g6⟩ := arr_at C (I.1.2.2.1 a _ hm)
      cases g1
      obtain ⟨i1, i2⟩ := hin_iff hi
      exact W.lald C.1 C.2.1 g2 g3 g4 (by rw [g5]; exact i1) (g6 _ i2) rfl rfl hdg (kk A I.2.2.2.2)
    · cases hr
  · cases hr
theorem ok_aald {ts : List Nat} (hts : ∀ t ∈ ts, ∃ ty, tyT[t]? = some ty ∧ ty.isReference = true) (hdg : decode q.2.1 pc = .ok (.aaload, 1)) (hn : pc + 1 = nx) : PfOK γ q pc (f_aald ts nx) := by
  intro x k0 d C ls st h r hr H locs cells slots A Q I kk
  unfold f_aald at hr
  split at hr
  · next i a rest =>
    split at hr
    · next v hv =>
      cases hr
      subst hn
      obtain ⟨t, htm, hv⟩ := List.exists_of_findSome?_eq_some hv
      obtain ⟨b, n, f, hm, hi, rfl⟩ := haq_inv hv
      obtain ⟨cell, ty, g1, g2, g3, g4, g5, g6⟩ := arr_at C (I.1.2.2.1 a _ hm)
      obtain ⟨ty', e1, e2⟩ := hts t htm
      cases e1.symm.trans g1
      obtain ⟨i1, i2⟩ := hin_iff hi
      exact W.aald C.1 C.2.1 g2 g3 e2 g4 (by rw [g5]; exact i1) (g6 _ i2) rfl rfl hdg (kk A I.2.2.2.2)
    · cases hr
  · cases hr
theorem ok_alen (hdg : decode q.2.1 pc = .ok (.arraylength, 1)) (hn : pc + 1 = nx) : PfOK γ q pc (f_alen nx) := by
  intro x k0 d C ls st h r hr H locs cells slots A Q I kk
  unfold f_alen at hr
  split at hr
  · next a rest =>
    split at hr
    · next n hv =>
      cases hr
      subst hn
      unfold hal at hv
      split at hv
      · next b t n' z e =>
        cases hv
        obtain ⟨cell, ty, g1, g2, g3, g4, g5, g6⟩ := arr_at C (I.1.2.2.1 a _ e)
        exact W.alen (n := nI n) C.1 C.2.1 g2 g3 (by rw [g5]; rfl) rfl rfl hdg (kk A I.2.2.2.2)
      · cases hv
    · cases hr
  · cases hr
end
