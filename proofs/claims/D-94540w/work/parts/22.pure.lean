/-! ===== SOUNDNESS of the instructions that leave the heap ===== -/
def PfOK (γ : AG) (q : AMi) (pc : Nat) (f : AF) : Prop := ∀ (x : MC) (k0 d : Nat), aCx γ x q (d + 1) → ∀ ls st h r, f ls st h = some r → ∀ H locs cells slots A Q, aIn γ x k0 q.2.2.1 h ls H locs cells slots A →
  (∀ A', aLs q.2.2.1 A' r.2.1 → aW x H locs cells slots Q (F0 (xm x) r.1 A' r.2.2)) → aW x H locs cells slots Q (F0 (xm x) pc A st)
theorem ok_aP {γ : AG} {q : AMi} {pc : Nat} {f : AF} (H : PfOK γ q pc f) : OpOK γ q pc (aP f) ∧ OpMono (aP f) := by
  refine ⟨?_, ?_⟩
  · intro x k0 d env C he hm ls st h r ho b1 b2 Q K
    unfold aP at ho
    cases hf : f ls st h with
    | none => rw [hf] at ho; cases ho
    | some z =>
      rw [hf] at ho
      cases ho
      intro H1 locs cells slots A I
      exact H x k0 d C ls st h z hf H1 locs cells slots A Q I (fun A' hA => K H1 locs cells slots A' ⟨I.1, I.2.1, I.2.2.1, I.2.2.2.1, hA⟩)
  · intro env he ls st h r ho
    unfold aP at ho
    cases hf : f ls st h with
    | none => rw [hf] at ho; cases ho
    | some z => rw [hf] at ho; cases ho; exact hLe.rf
section
variable {γ : AG} {q : AMi} {pc nx : Nat}
theorem ok_iconst {n : Int} {v : Int32} (hdg : decode q.2.1 pc = .ok (.iconst n, 1)) (hv : Int32.ofInt n = v) (hn : pc + 1 = nx) : PfOK γ q pc (f_const (.int v) nx) := by
  intro x k0 d C ls st h r hr H locs cells slots A Q I k
  subst hn; cases hr
  exact lv_iconst C.1 C.2.1 hdg hv (k A I.2.2.2.2)
theorem ok_bipush {n : Int} {v : Int32} (hdg : decode q.2.1 pc = .ok (.bipush n, 2)) (hv : (Int8.ofInt n).toInt32 = v) (hn : pc + 2 = nx) : PfOK γ q pc (f_const (.int v) nx) := by
  intro x k0 d C ls st h r hr H locs cells slots A Q I k
  subst hn; cases hr
  exact lv_bipush C.1 C.2.1 hdg hv (k A I.2.2.2.2)
theorem ok_sipush {n : Int} {v : Int32} (hdg : decode q.2.1 pc = .ok (.sipush n, 3)) (hv : (Int16.ofInt n).toInt32 = v) (hn : pc + 3 = nx) : PfOK γ q pc (f_const (.int v) nx) := by
  intro x k0 d C ls st h r hr H locs cells slots A Q I k
  subst hn; cases hr
  exact lv_sipush C.1 C.2.1 hdg hv (k A I.2.2.2.2)
theorem ok_ldc {index : Nat} {v : Int32} (hw : Jvm.Cond.constant q.1.cls index v ∈ lw_all) (hdg : decode q.2.1 pc = .ok (.ldc index, 2)) (hn : pc + 2 = nx) : PfOK γ q pc (f_const (.int v) nx) := by
  intro x k0 d C ls st h r hr H locs cells slots A Q I k
  subst hn; cases hr
  exact lv_ldc C.1 C.2.1 C.2.2.2.1 (C.2.2.2.2.1 _ hw) hdg (k A I.2.2.2.2)
theorem ok_ldcw {index : Nat} {v : Int32} (hw : Jvm.Cond.constant q.1.cls index v ∈ lw_all) (hdg : decode q.2.1 pc = .ok (.ldc_w index, 3)) (hn : pc + 3 = nx) : PfOK γ q pc (f_const (.int v) nx) := by
  intro x k0 d C ls st h r hr H locs cells slots A Q I k
  subst hn; cases hr
  exact lv_ldcw C.1 C.2.1 C.2.2.2.1 (C.2.2.2.2.1 _ hw) hdg (k A I.2.2.2.2)
theorem ok_null (hdg : decode q.2.1 pc = .ok (.aconst_null, 1)) (hn : pc + 1 = nx) : PfOK γ q pc (f_const .null nx) := by
  intro x k0 d C ls st h r hr H locs cells slots A Q I k
  subst hn; cases hr
  exact lv_null C.1 C.2.1 hdg (k A I.2.2.2.2)
theorem ok_lconst {n : Fin 2} {v : Int64} (hdg : decode q.2.1 pc = .ok (.lconst n, 1)) (hv : Int64.ofNat (n : Nat) = v) (hn : pc + 1 = nx) : PfOK γ q pc (f_const (.long v) nx) := by
  intro x k0 d C ls st h r hr H locs cells slots A Q I k
  subst hn; cases hr
  exact lv_lconst C.1 C.2.1 hdg hv (k A I.2.2.2.2)
theorem f_iload_inv {k : Nat} {ls : ALs} {st : List Value} {h : AH} {r : Nat × ALs × List Value} (hr : f_iload k nx ls st h = some r) : ∃ v, ls[k]? = some (some (.int v)) ∧ r = (nx, ls, .int v :: st) := by
  unfold f_iload at hr
  split at hr
  · next v e => exact ⟨v, e, (Option.some.inj hr).symm⟩
  · cases hr
theorem ok_iload_n {k : Fin 4} {i : Nat} (hdg : decode q.2.1 pc = .ok (.iload_n k, 1)) (hi : (k : Nat) = i) (hn : pc + 1 = nx) : PfOK γ q pc (f_iload i nx) := by
  intro x k0 d C ls st h r hr H locs cells slots A Q I k
  obtain ⟨v, e, rfl⟩ := f_iload_inv hr
  subst hn
  exact lv_iload_n C.1 C.2.1 hdg hi (I.2.2.2.2.2.2.2 _ _ e).1 (k A I.2.2.2.2)
theorem ok_iload {i : Nat} (hdg : decode q.2.1 pc = .ok (.iload i, 2)) (hn : pc + 2 = nx) : PfOK γ q pc (f_iload i nx) := by
  intro x k0 d C ls st h r hr H locs cells slots A Q I k
  obtain ⟨v, e, rfl⟩ := f_iload_inv hr
  subst hn
  exact lv_iload C.1 C.2.1 hdg (I.2.2.2.2.2.2.2 _ _ e).1 (k A I.2.2.2.2)
theorem f_aload_inv {k : Nat} {ls : ALs} {st : List Value} {h : AH} {r : Nat × ALs × List Value} (hr : f_aload k nx ls st h = some r) : (∃ v, ls[k]? = some (some (.ref v)) ∧ r = (nx, ls, .ref v :: st)) ∨ (ls[k]? = some (some .null) ∧ r = (nx, ls, .null :: st)) := by
  unfold f_aload at hr
  split at hr
  · next v e => exact Or.inl ⟨v, e, (Option.some.inj hr).symm⟩
  · next e => exact Or.inr ⟨e, (Option.some.inj hr).symm⟩
  · cases hr
theorem ok_aload_n {k : Fin 4} {i : Nat} (hdg : decode q.2.1 pc = .ok (.aload_n k, 1)) (hi : (k : Nat) = i) (hn : pc + 1 = nx) : PfOK γ q pc (f_aload i nx) := by
  intro x k0 d C ls st h r hr H locs cells slots A Q I k
  subst hn
  rcases f_aload_inv hr with ⟨v, e, rfl⟩ | ⟨e, rfl⟩
  · exact lv_aload_n C.1 C.2.1 hdg hi (I.2.2.2.2.2.2.2 _ _ e).1 (k A I.2.2.2.2)
  · exact lv_aload_nN C.1 C.2.1 hdg hi (I.2.2.2.2.2.2.2 _ _ e).1 (k A I.2.2.2.2)
theorem ok_aload {i : Nat} (hdg : decode q.2.1 pc = .ok (.aload i, 2)) (hn : pc + 2 = nx) : PfOK γ q pc (f_aload i nx) := by
  intro x k0 d C ls st h r hr H locs cells slots A Q I k
  subst hn
  rcases f_aload_inv hr with ⟨v, e, rfl⟩ | ⟨e, rfl⟩
  · exact lv_aload C.1 C.2.1 hdg (I.2.2.2.2.2.2.2 _ _ e).1 (k A I.2.2.2.2)
  · exact lv_aloadN C.1 C.2.1 hdg (I.2.2.2.2.2.2.2 _ _ e).1 (k A I.2.2.2.2)
/-- the locals as a list of pairs, and back -/
def aPr (ls : ALs) : List (Nat × Value) := (List.range ls.length).filterMap (fun i => match ls[i]? with
  | some (some v) => some (i, v)
  | _ => none)
theorem aPr_mem {ls : ALs} {i : Nat} {v : Value} : (i, v) ∈ aPr ls ↔ ls[i]? = some (some v) := by
  unfold aPr
  rw [List.mem_filterMap]
  constructor
  · rintro ⟨j, hj, hm⟩
    split at hm
    · next w e =>
      cases hm
      exact e
    · cases hm
  · intro e
    refine ⟨i, List.mem_range.mpr (List.getElem?_eq_some_iff.mp e).1, ?_⟩
    rw [e]
theorem aLs_has {nL : Nat} {A : Array Slot} {ls : ALs} (h : aLs nL A ls) : lv_has A nL (aPr ls) := ⟨h.2.1, h.2.2.1, fun z hz => (h.2.2.2 z.1 z.2 (aPr_mem.mp hz)).1⟩
theorem isC1_cat {v : Value} (h : isC1 v = true) : v.category = 1 := by cases v <;> first | rfl | cases h
theorem aLs_set {nL : Nat} {A A' : Array Slot} {ls : ALs} {i : Nat} {v : Value} (h : aLs nL A ls) (hv : isC1 v = true) (hA : lv_has A' nL ((i, v) :: (aPr ls).filter (fun z => !(z.1 == i) && !(z.1 + 1 == i && z.2.category == 2)))) : aLs nL A' (ls.set i (some v)) := by
  refine ⟨by rw [List.length_set]; exact h.1, hA.1, hA.2.1, fun j w hj => ?_⟩
  rw [List.getElem?_set] at hj
  split at hj
  · next e =>
    subst e
    split at hj
    · cases hj
      exact ⟨hA.2.2 (i, v) List.mem_cons_self, hv⟩
    · cases hj
  · next e =>
    have hc := (h.2.2.2 j w hj).2
    refine ⟨hA.2.2 (j, w) (List.mem_cons_of_mem _ (List.mem_filter.mpr ⟨aPr_mem.mpr hj, ?_⟩)), hc⟩
    have h1 : (j == i) = false := beq_eq_false_iff_ne.mpr (fun q => e q.symm)
    have h2 : (w.category == 2) = false := by rw [isC1_cat hc]; rfl
    simp [h1, h2]
theorem f_istore_inv {k : Nat} {ls : ALs} {st : List Value} {h : AH} {r : Nat × ALs × List Value} (hr : f_istore k nx ls st h = some r) : ∃ v rest, st = .int v :: rest ∧ k < ls.length ∧ r = (nx, ls.set k (some (.int v)), rest) := by
  unfold f_istore at hr
  split at hr
  · next v rest =>
    cases hb : Nat.blt k ls.length with
    | false => rw [hb] at hr; cases hr
    | true => rw [hb] at hr; exact ⟨v, rest, rfl, Nat.blt_eq.mp hb, (Option.some.inj hr).symm⟩
  · cases hr
theorem ok_istore_n {k : Fin 4} {i : Nat} (hdg : decode q.2.1 pc = .ok (.istore_n k, 1)) (hi : (k : Nat) = i) (hn : pc + 1 = nx) : PfOK γ q pc (f_istore i nx) := by
  intro x k0 d C ls st h r hr H locs cells slots A Q I k
  obtain ⟨v, rest, rfl, hk, rfl⟩ := f_istore_inv hr
  subst hn
  exact lv_istore_n C.1 C.2.1 hdg hi (aLs_has I.2.2.2.2) (by rw [← I.2.2.2.2.1]; exact hk) rfl (fun A' hA => k A' (aLs_set I.2.2.2.2 rfl hA))
theorem ok_istore {i : Nat} (hdg : decode q.2.1 pc = .ok (.istore i, 2)) (hn : pc + 2 = nx) : PfOK γ q pc (f_istore i nx) := by
  intro x k0 d C ls st h r hr H locs cells slots A Q I k
  obtain ⟨v, rest, rfl, hk, rfl⟩ := f_istore_inv hr
  subst hn
  exact lv_istore C.1 C.2.1 hdg (aLs_has I.2.2.2.2) (by rw [← I.2.2.2.2.1]; exact hk) rfl (fun A' hA => k A' (aLs_set I.2.2.2.2 rfl hA))
theorem f_astore_inv {k : Nat} {ls : ALs} {st : List Value} {h : AH} {r : Nat × ALs × List Value} (hr : f_astore k nx ls st h = some r) : k < ls.length ∧ ((∃ v rest, st = .ref v :: rest ∧ r = (nx, ls.set k (some (.ref v)), rest)) ∨ (∃ rest, st = .null :: rest ∧ r = (nx, ls.set k (some .null), rest))) := by
  unfold f_astore at hr
  split at hr
  · next v rest =>
    cases hb : Nat.blt k ls.length with
    | false => rw [hb] at hr; cases hr
    | true => rw [hb] at hr; exact ⟨Nat.blt_eq.mp hb, Or.inl ⟨v, rest, rfl, (Option.some.inj hr).symm⟩⟩
  · next rest =>
    cases hb : Nat.blt k ls.length with
    | false => rw [hb] at hr; cases hr
    | true => rw [hb] at hr; exact ⟨Nat.blt_eq.mp hb, Or.inr ⟨rest, rfl, (Option.some.inj hr).symm⟩⟩
  · cases hr
theorem ok_astore_n {k : Fin 4} {i : Nat} (hdg : decode q.2.1 pc = .ok (.astore_n k, 1)) (hi : (k : Nat) = i) (hn : pc + 1 = nx) : PfOK γ q pc (f_astore i nx) := by
  intro x k0 d C ls st h r hr H locs cells slots A Q I k
  obtain ⟨hk, ⟨v, rest, rfl, rfl⟩ | ⟨rest, rfl, rfl⟩⟩ := f_astore_inv hr
  · subst hn
    exact lv_astore_n C.1 C.2.1 hdg hi (aLs_has I.2.2.2.2) (by rw [← I.2.2.2.2.1]; exact hk) rfl (fun A' hA => k A' (aLs_set I.2.2.2.2 rfl hA))
  · subst hn
    exact lv_astore_nN C.1 C.2.1 hdg hi (aLs_has I.2.2.2.2) (by rw [← I.2.2.2.2.1]; exact hk) rfl (fun A' hA => k A' (aLs_set I.2.2.2.2 rfl hA))
theorem ok_astore {i : Nat} (hdg : decode q.2.1 pc = .ok (.astore i, 2)) (hn : pc + 2 = nx) : PfOK γ q pc (f_astore i nx) := by
  intro x k0 d C ls st h r hr H locs cells slots A Q I k
  obtain ⟨hk, ⟨v, rest, rfl, rfl⟩ | ⟨rest, rfl, rfl⟩⟩ := f_astore_inv hr
  · subst hn
    exact lv_astore C.1 C.2.1 hdg (aLs_has I.2.2.2.2) (by rw [← I.2.2.2.2.1]; exact hk) rfl (fun A' hA => k A' (aLs_set I.2.2.2.2 rfl hA))
  · subst hn
    exact lv_astoreN C.1 C.2.1 hdg (aLs_has I.2.2.2.2) (by rw [← I.2.2.2.2.1]; exact hk) rfl (fun A' hA => k A' (aLs_set I.2.2.2.2 rfl hA))
theorem ok_iinc {i : Nat} {n : Int} {v : Int32} (hdg : decode q.2.1 pc = .ok (.iinc i n, 3)) (hv : Int32.ofInt n = v) (hn : pc + 3 = nx) : PfOK γ q pc (f_iinc i v nx) := by
  intro x k0 d C ls st h r hr H locs cells slots A Q I k
  unfold f_iinc at hr
  split at hr
  · next w e =>
    cases hr
    subst hn
    obtain ⟨j, hj⟩ := List.mem_iff_getElem?.mp (aPr_mem.mpr e)
    exact lv_iinc C.1 C.2.1 hdg (aLs_has I.2.2.2.2) hj (by rw [hv]) (by rw [← I.2.2.2.2.1]; exact (List.getElem?_eq_some_iff.mp e).1) rfl (fun A' hA => k A' (aLs_set I.2.2.2.2 rfl hA))
  · cases hr
theorem f_bin_inv {g : Int32 → Int32 → Int32} {ls : ALs} {st : List Value} {h : AH} {r : Nat × ALs × List Value} (hr : f_bin g nx ls st h = some r) : ∃ v w rest, st = .int w :: .int v :: rest ∧ r = (nx, ls, .int (g v w) :: rest) := by
  unfold f_bin at hr
  split at hr
  · exact ⟨_, _, _, rfl, (Option.some.inj hr).symm⟩
  · cases hr
theorem f_div_inv {g : Int32 → Int32 → Int32} {ls : ALs} {st : List Value} {h : AH} {r : Nat × ALs × List Value} (hr : f_div g nx ls st h = some r) : ∃ v w rest, st = .int w :: .int v :: rest ∧ ¬ w = 0 ∧ r = (nx, ls, .int (g v w) :: rest) := by
  unfold f_div at hr
  split at hr
  · split at hr
    · cases hr
    · next h0 => exact ⟨_, _, _, rfl, h0, (Option.some.inj hr).symm⟩
  · cases hr
theorem f_un_inv {g : Int32 → Int32} {ls : ALs} {st : List Value} {h : AH} {r : Nat × ALs × List Value} (hr : f_un g nx ls st h = some r) : ∃ v rest, st = .int v :: rest ∧ r = (nx, ls, .int (g v) :: rest) := by
  unfold f_un at hr
  split at hr
  · exact ⟨_, _, rfl, (Option.some.inj hr).symm⟩
  · cases hr
theorem ok_iadd (hdg : decode q.2.1 pc = .ok (.iadd, 1)) (hn : pc + 1 = nx) : PfOK γ q pc (f_bin (fun x y => x + y) nx) := by
  intro x k0 d C ls st h r hr H locs cells slots A Q I k
  obtain ⟨v, w, rest, rfl, rfl⟩ := f_bin_inv hr
  subst hn
  exact lv_iadd C.1 C.2.1 hdg (k A I.2.2.2.2)
theorem ok_isub (hdg : decode q.2.1 pc = .ok (.isub, 1)) (hn : pc + 1 = nx) : PfOK γ q pc (f_bin (fun x y => x - y) nx) := by
  intro x k0 d C ls st h r hr H locs cells slots A Q I k
  obtain ⟨v, w, rest, rfl, rfl⟩ := f_bin_inv hr
  subst hn
  exact lv_isub C.1 C.2.1 hdg (k A I.2.2.2.2)
theorem ok_imul (hdg : decode q.2.1 pc = .ok (.imul, 1)) (hn : pc + 1 = nx) : PfOK γ q pc (f_bin (fun x y => x * y) nx) := by
  intro x k0 d C ls st h r hr H locs cells slots A Q I k
  obtain ⟨v, w, rest, rfl, rfl⟩ := f_bin_inv hr
  subst hn
  exact lv_imul C.1 C.2.1 hdg (k A I.2.2.2.2)
theorem ok_iand (hdg : decode q.2.1 pc = .ok (.iand, 1)) (hn : pc + 1 = nx) : PfOK γ q pc (f_bin (fun x y => x &&& y) nx) := by
  intro x k0 d C ls st h r hr H locs cells slots A Q I k
  obtain ⟨v, w, rest, rfl, rfl⟩ := f_bin_inv hr
  subst hn
  exact lv_iand C.1 C.2.1 hdg (k A I.2.2.2.2)
theorem ok_ior (hdg : decode q.2.1 pc = .ok (.ior, 1)) (hn : pc + 1 = nx) : PfOK γ q pc (f_bin (fun x y => x ||| y) nx) := by
  intro x k0 d C ls st h r hr H locs cells slots A Q I k
  obtain ⟨v, w, rest, rfl, rfl⟩ := f_bin_inv hr
  subst hn
  exact lv_ior C.1 C.2.1 hdg (k A I.2.2.2.2)
theorem ok_ixor (hdg : decode q.2.1 pc = .ok (.ixor, 1)) (hn : pc + 1 = nx) : PfOK γ q pc (f_bin (fun x y => x ^^^ y) nx) := by
  intro x k0 d C ls st h r hr H locs cells slots A Q I k
  obtain ⟨v, w, rest, rfl, rfl⟩ := f_bin_inv hr
  subst hn
  exact lv_ixor C.1 C.2.1 hdg (k A I.2.2.2.2)
theorem ok_ishl (hdg : decode q.2.1 pc = .ok (.ishl, 1)) (hn : pc + 1 = nx) : PfOK γ q pc (f_bin (fun x y => x <<< (y &&& 31)) nx) := by
  intro x k0 d C ls st h r hr H locs cells slots A Q I k
  obtain ⟨v, w, rest, rfl, rfl⟩ := f_bin_inv hr
  subst hn
  exact lv_ishl C.1 C.2.1 hdg (k A I.2.2.2.2)
theorem ok_ishr (hdg : decode q.2.1 pc = .ok (.ishr, 1)) (hn : pc + 1 = nx) : PfOK γ q pc (f_bin (fun x y => x >>> (y &&& 31)) nx) := by
  intro x k0 d C ls st h r hr H locs cells slots A Q I k
  obtain ⟨v, w, rest, rfl, rfl⟩ := f_bin_inv hr
  subst hn
  exact lv_ishr C.1 C.2.1 hdg (k A I.2.2.2.2)
theorem ok_iushr (hdg : decode q.2.1 pc = .ok (.iushr, 1)) (hn : pc + 1 = nx) : PfOK γ q pc (f_bin (fun x y => (x.toUInt32 >>> (y.toUInt32 &&& Int32.toUInt32 31)).toInt32) nx) := by
  intro x k0 d C ls st h r hr H locs cells slots A Q I k
  obtain ⟨v, w, rest, rfl, rfl⟩ := f_bin_inv hr
  subst hn
  exact lv_iushr C.1 C.2.1 hdg rfl (k A I.2.2.2.2)
theorem ok_idiv (hdg : decode q.2.1 pc = .ok (.idiv, 1)) (hn : pc + 1 = nx) : PfOK γ q pc (f_div (fun x y => x / y) nx) := by
  intro x k0 d C ls st h r hr H locs cells slots A Q I k
  obtain ⟨v, w, rest, rfl, h0, rfl⟩ := f_div_inv hr
  subst hn
  exact lv_idiv C.1 C.2.1 hdg h0 (k A I.2.2.2.2)
theorem ok_irem (hdg : decode q.2.1 pc = .ok (.irem, 1)) (hn : pc + 1 = nx) : PfOK γ q pc (f_div (fun x y => x - x / y * y) nx) := by
  intro x k0 d C ls st h r hr H locs cells slots A Q I k
  obtain ⟨v, w, rest, rfl, h0, rfl⟩ := f_div_inv hr
  subst hn
  exact lv_irem C.1 C.2.1 hdg h0 (k A I.2.2.2.2)
theorem ok_ineg (hdg : decode q.2.1 pc = .ok (.ineg, 1)) (hn : pc + 1 = nx) : PfOK γ q pc (f_un (fun x => -x) nx) := by
  intro x k0 d C ls st h r hr H locs cells slots A Q I k
  obtain ⟨v, rest, rfl, rfl⟩ := f_un_inv hr
  subst hn
  exact lv_ineg C.1 C.2.1 hdg (k A I.2.2.2.2)
theorem ok_i2b (hdg : decode q.2.1 pc = .ok (.i2b, 1)) (hn : pc + 1 = nx) : PfOK γ q pc (f_un (fun x => x.toInt8.toInt32) nx) := by
  intro x k0 d C ls st h r hr H locs cells slots A Q I k
  obtain ⟨v, rest, rfl, rfl⟩ := f_un_inv hr
  subst hn
  exact lv_i2b C.1 C.2.1 hdg rfl (k A I.2.2.2.2)
theorem ok_i2c (hdg : decode q.2.1 pc = .ok (.i2c, 1)) (hn : pc + 1 = nx) : PfOK γ q pc (f_un (fun x => (x.toUInt32 % 65536).toInt32) nx) := by
  intro x k0 d C ls st h r hr H locs cells slots A Q I k
  obtain ⟨v, rest, rfl, rfl⟩ := f_un_inv hr
  subst hn
  exact lv_i2c C.1 C.2.1 hdg rfl (k A I.2.2.2.2)
theorem ok_i2s (hdg : decode q.2.1 pc = .ok (.i2s, 1)) (hn : pc + 1 = nx) : PfOK γ q pc (f_un (fun x => x.toInt16.toInt32) nx) := by
  intro x k0 d C ls st h r hr H locs cells slots A Q I k
  obtain ⟨v, rest, rfl, rfl⟩ := f_un_inv hr
  subst hn
  exact lv_i2s C.1 C.2.1 hdg rfl (k A I.2.2.2.2)
theorem ok_i2l (hdg : decode q.2.1 pc = .ok (.i2l, 1)) (hn : pc + 1 = nx) : PfOK γ q pc (f_i2l nx) := by
  intro x k0 d C ls st h r hr H locs cells slots A Q I k
  unfold f_i2l at hr
  split at hr
  · cases hr
    subst hn
    exact lv_i2l C.1 C.2.1 hdg rfl (k A I.2.2.2.2)
  · cases hr
theorem ok_lcmp (hdg : decode q.2.1 pc = .ok (.lcmp, 1)) (hn : pc + 1 = nx) : PfOK γ q pc (f_lcmp nx) := by
  intro x k0 d C ls st h r hr H locs cells slots A Q I k
  unfold f_lcmp at hr
  split at hr
  · cases hr
    subst hn
    exact W.lcmp C.1 C.2.1 hdg (k A I.2.2.2.2)
  · cases hr
theorem ok_pop (hdg : decode q.2.1 pc = .ok (.pop, 1)) (hn : pc + 1 = nx) : PfOK γ q pc (f_pop nx) := by
  intro x k0 d C ls st h r hr H locs cells slots A Q I k
  unfold f_pop at hr
  split at hr
  · next v rest =>
    cases hv : isC1 v with
    | false => rw [hv] at hr; cases hr
    | true =>
      rw [hv] at hr; cases hr
      subst hn
      exact lv_pop C.1 C.2.1 hdg (isC1_cat hv) (k A I.2.2.2.2)
  · cases hr
theorem ok_dup (hdg : decode q.2.1 pc = .ok (.dup, 1)) (hn : pc + 1 = nx) : PfOK γ q pc (f_dup nx) := by
  intro x k0 d C ls st h r hr H locs cells slots A Q I k
  unfold f_dup at hr
  split at hr
  · next v rest =>
    cases hv : isC1 v with
    | false => rw [hv] at hr; cases hr
    | true =>
      rw [hv] at hr; cases hr
      subst hn
      exact lv_dup C.1 C.2.1 hdg (isC1_cat hv) (k A I.2.2.2.2)
  · cases hr
theorem ok_dupx1 (hdg : decode q.2.1 pc = .ok (.dup_x1, 1)) (hn : pc + 1 = nx) : PfOK γ q pc (f_dupx1 nx) := by
  intro x k0 d C ls st h r hr H locs cells slots A Q I k
  unfold f_dupx1 at hr
  split at hr
  · next v w rest =>
    cases hv : isC1 v && isC1 w with
    | false => rw [hv] at hr; cases hr
    | true =>
      rw [hv] at hr; cases hr
      rw [Bool.and_eq_true] at hv
      subst hn
      exact lv_dup_x1 C.1 C.2.1 hdg (isC1_cat hv.1) (isC1_cat hv.2) (k A I.2.2.2.2)
  · cases hr
theorem ok_dup2 (hdg : decode q.2.1 pc = .ok (.dup2, 1)) (hn : pc + 1 = nx) : PfOK γ q pc (f_dup2 nx) := by
  intro x k0 d C ls st h r hr H locs cells slots A Q I k
  unfold f_dup2 at hr
  split at hr
  · next v w rest =>
    cases hv : isC1 v && isC1 w with
    | false => rw [hv] at hr; cases hr
    | true =>
      rw [hv] at hr; cases hr
      rw [Bool.and_eq_true] at hv
      subst hn
      exact lv_dup2_11 C.1 C.2.1 hdg (isC1_cat hv.1) (isC1_cat hv.2) (k A I.2.2.2.2)
  · cases hr
theorem ok_goto {off : Int} {tgt : Nat} (hdg : decode q.2.1 pc = .ok (.goto off, 3)) (ht : (pc : Int) + off = (tgt : Int)) : PfOK γ q pc (f_goto tgt) := by
  intro x k0 d C ls st h r hr H locs cells slots A Q I k
  cases hr
  exact lv_goto C.1 C.2.1 hdg ht (k A I.2.2.2.2)
theorem ok_if_eq {off : Int} {tgt : Nat} (hdg : decode q.2.1 pc = .ok (.ifCond .eq off, 3)) (ht : (pc : Int) + off = (tgt : Int)) (hn : pc + 3 = nx) : PfOK γ q pc (f_if (fun x => decide (x = 0)) tgt nx) := by
  intro x k0 d C ls st h r hr H locs cells slots A Q I k
  unfold f_if at hr
  split at hr
  · next v rest =>
    cases hr
    subst hn
    refine lv_if_eq C.1 C.2.1 hdg ht (fun hc => ?_) (fun hc => ?_)
    · have k := k A I.2.2.2.2
      rw [show (bif decide (v = 0) then tgt else pc + 3) = tgt by rw [decide_eq_true hc]; rfl] at k
      exact k
    · have k := k A I.2.2.2.2
      rw [show (bif decide (v = 0) then tgt else pc + 3) = pc + 3 by rw [decide_eq_false hc]; rfl] at k
      exact k
  · cases hr
theorem ok_if_ne {off : Int} {tgt : Nat} (hdg : decode q.2.1 pc = .ok (.ifCond .ne off, 3)) (ht : (pc : Int) + off = (tgt : Int)) (hn : pc + 3 = nx) : PfOK γ q pc (f_if (fun x => decide (¬ x = 0)) tgt nx) := by
  intro x k0 d C ls st h r hr H locs cells slots A Q I k
  unfold f_if at hr
  split at hr
  · next v rest =>
    cases hr
    subst hn
    refine lv_if_ne C.1 C.2.1 hdg ht (fun hc => ?_) (fun hc => ?_)
    · have k := k A I.2.2.2.2
      rw [show (bif decide (¬ v = 0) then tgt else pc + 3) = tgt by rw [decide_eq_true hc]; rfl] at k
      exact k
    · have k := k A I.2.2.2.2
      rw [show (bif decide (¬ v = 0) then tgt else pc + 3) = pc + 3 by rw [decide_eq_false (fun z => z hc)]; rfl] at k
      exact k
  · cases hr
theorem ok_if_lt {off : Int} {tgt : Nat} (hdg : decode q.2.1 pc = .ok (.ifCond .lt off, 3)) (ht : (pc : Int) + off = (tgt : Int)) (hn : pc + 3 = nx) : PfOK γ q pc (f_if (fun x => decide (x < 0)) tgt nx) := by
  intro x k0 d C ls st h r hr H locs cells slots A Q I k
  unfold f_if at hr
  split at hr
  · next v rest =>
    cases hr
    subst hn
    refine lv_if_lt C.1 C.2.1 hdg ht (fun hc => ?_) (fun hc => ?_)
    · have k := k A I.2.2.2.2
      rw [show (bif decide (v < 0) then tgt else pc + 3) = tgt by rw [decide_eq_true hc]; rfl] at k
      exact k
    · have k := k A I.2.2.2.2
      rw [show (bif decide (v < 0) then tgt else pc + 3) = pc + 3 by rw [decide_eq_false hc]; rfl] at k
      exact k
  · cases hr
theorem ok_if_ge {off : Int} {tgt : Nat} (hdg : decode q.2.1 pc = .ok (.ifCond .ge off, 3)) (ht : (pc : Int) + off = (tgt : Int)) (hn : pc + 3 = nx) : PfOK γ q pc (f_if (fun x => decide (0 ≤ x)) tgt nx) := by
  intro x k0 d C ls st h r hr H locs cells slots A Q I k
  unfold f_if at hr
  split at hr
  · next v rest =>
    cases hr
    subst hn
    refine lv_if_ge C.1 C.2.1 hdg ht (fun hc => ?_) (fun hc => ?_)
    · have k := k A I.2.2.2.2
      rw [show (bif decide (0 ≤ v) then tgt else pc + 3) = tgt by rw [decide_eq_true hc]; rfl] at k
      exact k
    · have k := k A I.2.2.2.2
      rw [show (bif decide (0 ≤ v) then tgt else pc + 3) = pc + 3 by rw [decide_eq_false hc]; rfl] at k
      exact k
  · cases hr
theorem ok_if_gt {off : Int} {tgt : Nat} (hdg : decode q.2.1 pc = .ok (.ifCond .gt off, 3)) (ht : (pc : Int) + off = (tgt : Int)) (hn : pc + 3 = nx) : PfOK γ q pc (f_if (fun x => decide (0 < x)) tgt nx) := by
  intro x k0 d C ls st h r hr H locs cells slots A Q I k
  unfold f_if at hr
  split at hr
  · next v rest =>
    cases hr
    subst hn
    refine lv_if_gt C.1 C.2.1 hdg ht (fun hc => ?_) (fun hc => ?_)
    · have k := k A I.2.2.2.2
      rw [show (bif decide (0 < v) then tgt else pc + 3) = tgt by rw [decide_eq_true hc]; rfl] at k
      exact k
    · have k := k A I.2.2.2.2
      rw [show (bif decide (0 < v) then tgt else pc + 3) = pc + 3 by rw [decide_eq_false hc]; rfl] at k
      exact k
  · cases hr
theorem ok_if_le {off : Int} {tgt : Nat} (hdg : decode q.2.1 pc = .ok (.ifCond .le off, 3)) (ht : (pc : Int) + off = (tgt : Int)) (hn : pc + 3 = nx) : PfOK γ q pc (f_if (fun x => decide (x ≤ 0)) tgt nx) := by
  intro x k0 d C ls st h r hr H locs cells slots A Q I k
  unfold f_if at hr
  split at hr
  · next v rest =>
    cases hr
    subst hn
    refine lv_if_le C.1 C.2.1 hdg ht (fun hc => ?_) (fun hc => ?_)
    · have k := k A I.2.2.2.2
      rw [show (bif decide (v ≤ 0) then tgt else pc + 3) = tgt by rw [decide_eq_true hc]; rfl] at k
      exact k
    · have k := k A I.2.2.2.2
      rw [show (bif decide (v ≤ 0) then tgt else pc + 3) = pc + 3 by rw [decide_eq_false hc]; rfl] at k
      exact k
  · cases hr
theorem ok_icmp_eq {off : Int} {tgt : Nat} (hdg : decode q.2.1 pc = .ok (.if_icmp .eq off, 3)) (ht : (pc : Int) + off = (tgt : Int)) (hn : pc + 3 = nx) : PfOK γ q pc (f_icmp (fun x y => decide (x = y)) tgt nx) := by
  intro x k0 d C ls st h r hr H locs cells slots A Q I k
  unfold f_icmp at hr
  split at hr
  · next w v rest =>
    cases hr
    subst hn
    refine lv_icmp_eq C.1 C.2.1 hdg ht (fun hc => ?_) (fun hc => ?_)
    · have k := k A I.2.2.2.2
      rw [show (bif decide (v = w) then tgt else pc + 3) = tgt by rw [decide_eq_true hc]; rfl] at k
      exact k
    · have k := k A I.2.2.2.2
      rw [show (bif decide (v = w) then tgt else pc + 3) = pc + 3 by rw [decide_eq_false hc]; rfl] at k
      exact k
  · cases hr
theorem ok_icmp_ne {off : Int} {tgt : Nat} (hdg : decode q.2.1 pc = .ok (.if_icmp .ne off, 3)) (ht : (pc : Int) + off = (tgt : Int)) (hn : pc + 3 = nx) : PfOK γ q pc (f_icmp (fun x y => decide (¬ x = y)) tgt nx) := by
  intro x k0 d C ls st h r hr H locs cells slots A Q I k
  unfold f_icmp at hr
  split at hr
  · next w v rest =>
    cases hr
    subst hn
    refine lv_icmp_ne C.1 C.2.1 hdg ht (fun hc => ?_) (fun hc => ?_)
    · have k := k A I.2.2.2.2
      rw [show (bif decide (¬ v = w) then tgt else pc + 3) = tgt by rw [decide_eq_true hc]; rfl] at k
      exact k
    · have k := k A I.2.2.2.2
      rw [show (bif decide (¬ v = w) then tgt else pc + 3) = pc + 3 by rw [decide_eq_false (fun z => z hc)]; rfl] at k
      exact k
  · cases hr
theorem ok_icmp_lt {off : Int} {tgt : Nat} (hdg : decode q.2.1 pc = .ok (.if_icmp .lt off, 3)) (ht : (pc : Int) + off = (tgt : Int)) (hn : pc + 3 = nx) : PfOK γ q pc (f_icmp (fun x y => decide (x < y)) tgt nx) := by
  intro x k0 d C ls st h r hr H locs cells slots A Q I k
  unfold f_icmp at hr
  split at hr
  · next w v rest =>
    cases hr
    subst hn
    refine lv_icmp_lt C.1 C.2.1 hdg ht (fun hc => ?_) (fun hc => ?_)
    · have k := k A I.2.2.2.2
      rw [show (bif decide (v < w) then tgt else pc + 3) = tgt by rw [decide_eq_true hc]; rfl] at k
      exact k
    · have k := k A I.2.2.2.2
      rw [show (bif decide (v < w) then tgt else pc + 3) = pc + 3 by rw [decide_eq_false hc]; rfl] at k
      exact k
  · cases hr
theorem ok_icmp_ge {off : Int} {tgt : Nat} (hdg : decode q.2.1 pc = .ok (.if_icmp .ge off, 3)) (ht : (pc : Int) + off = (tgt : Int)) (hn : pc + 3 = nx) : PfOK γ q pc (f_icmp (fun x y => decide (y ≤ x)) tgt nx) := by
  intro x k0 d C ls st h r hr H locs cells slots A Q I k
  unfold f_icmp at hr
  split at hr
  · next w v rest =>
    cases hr
    subst hn
    refine lv_icmp_ge C.1 C.2.1 hdg ht (fun hc => ?_) (fun hc => ?_)
    · have k := k A I.2.2.2.2
      rw [show (bif decide (w ≤ v) then tgt else pc + 3) = tgt by rw [decide_eq_true hc]; rfl] at k
      exact k
    · have k := k A I.2.2.2.2
      rw [show (bif decide (w ≤ v) then tgt else pc + 3) = pc + 3 by rw [decide_eq_false hc]; rfl] at k
      exact k
  · cases hr
theorem ok_icmp_gt {off : Int} {tgt : Nat} (hdg : decode q.2.1 pc = .ok (.if_icmp .gt off, 3)) (ht : (pc : Int) + off = (tgt : Int)) (hn : pc + 3 = nx) : PfOK γ q pc (f_icmp (fun x y => decide (y < x)) tgt nx) := by
  intro x k0 d C ls st h r hr H locs cells slots A Q I k
  unfold f_icmp at hr
  split at hr
  · next w v rest =>
    cases hr
    subst hn
    refine lv_icmp_gt C.1 C.2.1 hdg ht (fun hc => ?_) (fun hc => ?_)
    · have k := k A I.2.2.2.2
      rw [show (bif decide (w < v) then tgt else pc + 3) = tgt by rw [decide_eq_true hc]; rfl] at k
      exact k
    · have k := k A I.2.2.2.2
      rw [show (bif decide (w < v) then tgt else pc + 3) = pc + 3 by rw [decide_eq_false hc]; rfl] at k
      exact k
  · cases hr
theorem ok_icmp_le {off : Int} {tgt : Nat} (hdg : decode q.2.1 pc = .ok (.if_icmp .le off, 3)) (ht : (pc : Int) + off = (tgt : Int)) (hn : pc + 3 = nx) : PfOK γ q pc (f_icmp (fun x y => decide (x ≤ y)) tgt nx) := by
  intro x k0 d C ls st h r hr H locs cells slots A Q I k
  unfold f_icmp at hr
  split at hr
  · next w v rest =>
    cases hr
    subst hn
    refine lv_icmp_le C.1 C.2.1 hdg ht (fun hc => ?_) (fun hc => ?_)
    · have k := k A I.2.2.2.2
      rw [show (bif decide (v ≤ w) then tgt else pc + 3) = tgt by rw [decide_eq_true hc]; rfl] at k
      exact k
    · have k := k A I.2.2.2.2
      rw [show (bif decide (v ≤ w) then tgt else pc + 3) = pc + 3 by rw [decide_eq_false hc]; rfl] at k
      exact k
  · cases hr
theorem ok_ifnull {off : Int} {tgt : Nat} (hdg : decode q.2.1 pc = .ok (.ifnull off, 3)) (ht : (pc : Int) + off = (tgt : Int)) (hn : pc + 3 = nx) : PfOK γ q pc (f_null tgt nx) := by
  intro x k0 d C ls st h r hr H locs cells slots A Q I k
  unfold f_null at hr
  split at hr
  · cases hr
    exact lv_ifnullN C.1 C.2.1 hdg ht (k A I.2.2.2.2)
  · cases hr
    subst hn
    exact lv_ifnull C.1 C.2.1 hdg (k A I.2.2.2.2)
  · cases hr
theorem ok_ifnonnull {off : Int} {tgt : Nat} (hdg : decode q.2.1 pc = .ok (.ifnonnull off, 3)) (ht : (pc : Int) + off = (tgt : Int)) (hn : pc + 3 = nx) : PfOK γ q pc (f_null nx tgt) := by
  intro x k0 d C ls st h r hr H locs cells slots A Q I k
  unfold f_null at hr
  split at hr
  · cases hr
    subst hn
    exact lv_ifnonnullN C.1 C.2.1 hdg (k A I.2.2.2.2)
  · cases hr
    exact lv_ifnonnull C.1 C.2.1 hdg ht (k A I.2.2.2.2)
  · cases hr
theorem rfOf_some {v : Value} {a : Option Nat} (h : rfOf v = some a) : v = va_rf a := by
  unfold rfOf at h
  split at h
  · cases h; rfl
  · cases h; rfl
  · cases h
theorem f_acmp_inv {t : Nat} {ls : ALs} {st : List Value} {h : AH} {r : Nat × ALs × List Value} (hr : f_acmp t nx ls st h = some r) : ∃ a b rest, st = va_rf b :: va_rf a :: rest ∧ r = (if a = b then t else nx, ls, rest) := by
  unfold f_acmp at hr
  split at hr
  · next y x rest =>
    split at hr
    · next a b e1 e2 =>
      cases hr
      exact ⟨a, b, rest, by rw [rfOf_some e1, rfOf_some e2], rfl⟩
    · cases hr
  · cases hr
theorem ok_acmp_eq {off : Int} {tgt : Nat} (hdg : decode q.2.1 pc = .ok (.if_acmp .eq off, 3)) (ht : (pc : Int) + off = (tgt : Int)) (hn : pc + 3 = nx) : PfOK γ q pc (f_acmp tgt nx) := by
  intro x k0 d C ls st h r hr H locs cells slots A Q I k
  obtain ⟨a, b, rest, rfl, rfl⟩ := f_acmp_inv hr
  subst hn
  refine lv_acmp_eq C.1 C.2.1 hdg ht (fun hc => ?_) (fun hc => ?_)
  · have k := k A I.2.2.2.2
    rw [if_pos hc] at k
    exact k
  · have k := k A I.2.2.2.2
    rw [if_neg hc] at k
    exact k
theorem ok_acmp_ne {off : Int} {tgt : Nat} (hdg : decode q.2.1 pc = .ok (.if_acmp .ne off, 3)) (ht : (pc : Int) + off = (tgt : Int)) (hn : pc + 3 = nx) : PfOK γ q pc (f_acmp nx tgt) := by
  intro x k0 d C ls st h r hr H locs cells slots A Q I k
  obtain ⟨a, b, rest, rfl, rfl⟩ := f_acmp_inv hr
  subst hn
  refine lv_acmp_ne C.1 C.2.1 hdg ht (fun hc => ?_) (fun hc => ?_)
  · have k := k A I.2.2.2.2
    rw [if_neg hc] at k
    exact k
  · have k := k A I.2.2.2.2
    rw [if_pos hc] at k
    exact k
theorem ok_table {dflt lo hi : Int} {offs : Array Int} {len : Nat} {g : Int32 → Nat} {tg : List Nat} {td : Nat} (hdg : decode q.2.1 pc = .ok (.tableswitch dflt lo hi offs, len)) (hd : (pc : Int) + dflt = (td : Int)) (ho : offs.toList.map (fun o => (pc : Int) + o) = tg.map (fun (t : Nat) => (t : Int))) (hlen : hi - lo + 1 = (tg.length : Int))
    (hg : g = fun x => if x.toInt < lo ∨ hi < x.toInt then td else tg.getD (x.toInt - lo).toNat 0) : PfOK γ q pc (f_sw g) := by
  intro x k0 d C ls st h r hr H locs cells slots A Q I k
  unfold f_sw at hr
  split at hr
  · next v rest =>
    cases hr
    have k := k A I.2.2.2.2
    subst hg
    dsimp only at k
    by_cases hb : v.toInt < lo ∨ hi < v.toInt
    · rw [if_pos hb] at k
      exact lv_tableOut C.1 C.2.1 hdg hb hd k
    · rw [if_neg hb] at k
      have h1 : ¬ v.toInt < lo := fun z => hb (Or.inl z)
      have h2 : ¬ hi < v.toInt := fun z => hb (Or.inr z)
      have hlt : (v.toInt - lo).toNat < tg.length := by omega
      have hsz : offs.toList.length = tg.length := by
        have := congrArg List.length ho
        simpa using this
      have hlt2 : (v.toInt - lo).toNat < offs.size := by rw [← Array.length_toList, hsz]; exact hlt
      refine lv_tableIn (off := offs[(v.toInt - lo).toNat]) C.1 C.2.1 hdg h1 h2 (Array.getElem?_eq_getElem hlt2) (tgt := tg.getD (v.toInt - lo).toNat 0) ?_ k
      have e := congrArg (fun z => z[(v.toInt - lo).toNat]?) ho
      simp only [List.getElem?_map] at e
      rw [List.getElem?_eq_getElem (by rw [hsz]; exact hlt), List.getElem?_eq_getElem hlt] at e
      simp only [Option.map_some, Option.some.injEq, Array.getElem_toList] at e
      rw [e, List.getD_eq_getElem?_getD, List.getElem?_eq_getElem hlt]
      rfl
  · cases hr
theorem ok_lookup {dflt : Int} {ps : Array (Int × Int)} {len : Nat} {g : Int32 → Nat} (hdg : decode q.2.1 pc = .ok (.lookupswitch dflt ps, len)) (hp : (ps.toList.zip (ps.toList.drop 1)).all (fun (a, next) => a.1 < next.1) = true)
    {lp : List (Int × Int)} (hlp : ps.toList = lp) (hg : ∀ v : Int32, (pc : Int) + Op.lookupswitch.offset lp dflt v.toInt = (g v : Int)) : PfOK γ q pc (f_sw g) := by
  subst hlp
  intro x k0 d C ls st h r hr H locs cells slots A Q I k
  unfold f_sw at hr
  split at hr
  · next v rest =>
    cases hr
    exact lv_lookup C.1 C.2.1 hdg hp rfl (hg v) (k A I.2.2.2.2)
  · cases hr
end
