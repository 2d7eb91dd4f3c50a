/-! ===== SOUNDNESS: calls, throws, ends ===== -/
abbrev aRun (γ : AG) (x : MC) (H : Heap) (locs : List Loc) (cells slots : Nat) (g : JFrame) (rest : List Value) (h : AH) (out : AOut) (h' : AH) (arr : List Value) : Prop :=
  vx_Run x.1 x.2.1 x.2.2.1 x.2.2.2.1 x.2.2.2.2.1 x.2.2.2.2.2.1 x.2.2.2.2.2.2.1 x.2.2.2.2.2.2.2.1 x.2.2.2.2.2.2.2.2.1 x.2.2.2.2.2.2.2.2.2 H locs cells slots (h'.2.1 - h.2.1) (h'.2.2.1 - h.2.2.1) g rest (aQc γ out h' arr.toArray) (aXc γ out h') (fun q => γ.2.2.1 ≤ q)
abbrev aRun5 (γ : AG) (x : MC) (H : Heap) (locs : List Loc) (cells slots : Nat) (g : JFrame) (rest : List Value) (h : AH) (out : AOut) (h' : AH) (arr : List Value) : Prop :=
  vx_Run5 x.1 x.2.1 x.2.2.1 x.2.2.2.1 x.2.2.2.2.1 x.2.2.2.2.2.1 x.2.2.2.2.2.2.1 x.2.2.2.2.2.2.2.1 x.2.2.2.2.2.2.2.2.1 x.2.2.2.2.2.2.2.2.2 H locs cells slots (h'.2.1 - h.2.1) (h'.2.2.1 - h.2.2.1) g rest (aQc γ out h' arr.toArray) (aXc γ out h') (fun q => γ.2.2.1 ≤ q)
theorem blind_aPc {γ : AG} {as : List Value} {h : AH} : FrameBlind (aPc γ as h) := by
  intro a U g mk hp
  obtain ⟨h1, h2, h3⟩ := hp
  exact ⟨h1, aTab.warm (U := U.calling g mk a) (State.WarmedH.refl U) h2, h3⟩
theorem pre_aPc {γ : AG} {q : AMi} {x : MC} {d : Nat} (C : aCx γ x q d) {as : List Value} {h : AH} {H : Heap} (r : aRel γ (xs x) h H) : ∀ U : State, U.heap = H → (xs x).WarmedH U.vm → aPc γ as h as.toArray U := by
  intro U hU hW
  exact ⟨rfl, aTab.warm hW C.2.2.2.2.2.1, by rw [hU]; exact r.moved hW.alike⟩
/-- behind a call -/
theorem call_go {γ : AG} {q : AMi} {x : MC} {k0 d nx pc nL : Nat} {out : AOut} {h h' : AH} {ls : ALs} {st rest arr : List Value} (hl : hLe h h') {H : Heap} {locs : List Loc} {cells slots : Nat} {A : Array Slot} {Q : State → Prop}
    (I : aIn γ x k0 nL h ls H locs cells slots A) (hr : aRun γ x H locs cells slots (F0 (xm x) pc A st) rest h out h' arr) (hn : pc + 3 = nx)
    (k1 : ∀ v, out = .inl v → aWA γ x k0 nL Q (nx, ls, v.toList ++ rest, h')) (k2 : ∀ E, out = .inr E → aXA γ x k0 nL Q pc ls h' E) : aW x H locs cells slots Q (F0 (xm x) pc A st) := by
  intro T hT X
  have key : ∀ {st₀ t T' : State} {L : List Loc}, st₀.heap = H → T'.heap = t.heap → T'.vm = t.vm → (∀ z ∈ L, γ.2.2.1 ≤ z.base) → aRel γ t h' t.heap → va_F (fun q => γ.2.2.1 ≤ q) st₀ t → (xs x).WarmedH T'.vm → aIn γ x k0 nL h' ls T'.heap (locs ++ L) (cells + (h'.2.1 - h.2.1)) (slots + (h'.2.2.1 - h.2.2.1)) A := by
    intro st₀ t T' L h0 e1 e2 hL hrel hF hW
    obtain ⟨f1, f2, f3⟩ := vx_keep (T' := T') h0 e1 I.2.1 (fun _ _ z => z) (fun _ z => z) hL hF
    have hrel2 : aRel γ (xs x) h' T'.heap := by
      rw [e1]
      exact hrel.moved (by rw [← e2]; exact hW.alike.symm)
    have e5 := hrel2.1
    have e6 := I.1.1
    have e7 := I.2.2.1
    have e8 := I.2.2.2.1
    have l1 := hl.1
    have l2 := hl.2
    exact ⟨hrel2, f3, by omega, by omega, I.2.2.2.2⟩
  rcases hr T hT X with ⟨v, st₀, t, T', L, h0, X', hL, e1, e2, ⟨⟨v', ho, hv, hrel⟩, hF⟩, st1⟩ | ⟨q9, st₀, t, T', L, E, ce, h0, X', hL, e1, e2, ⟨⟨i, ho, hE, hrel⟩, hF⟩, hce, hvm, hcl, st1⟩
  · cases hv
    obtain ⟨t2, a1, b1⟩ := k1 v ho T'.heap _ _ _ A (key h0 e1 e2 hL hrel hF X'.warmed) T' rfl X'
    subst hn
    exact ⟨t2, st1 t2 a1, b1⟩
  · obtain ⟨t2, a1, b1⟩ := k2 i ho T'.heap _ _ _ A rest q9 ce (key h0 e1 e2 hL hrel hF X'.warmed) (by rw [e1]; exact hce) hvm (by rw [hE]; exact hcl) T' rfl X'
    exact ⟨t2, st1.trans a1, b1⟩
theorem call_go5 {γ : AG} {q : AMi} {x : MC} {k0 d nx pc nL : Nat} {out : AOut} {h h' : AH} {ls : ALs} {st rest arr : List Value} (hl : hLe h h') {H : Heap} {locs : List Loc} {cells slots : Nat} {A : Array Slot} {Q : State → Prop}
    (I : aIn γ x k0 nL h ls H locs cells slots A) (hr : aRun5 γ x H locs cells slots (F0 (xm x) pc A st) rest h out h' arr) (hn : pc + 5 = nx)
    (k1 : ∀ v, out = .inl v → aWA γ x k0 nL Q (nx, ls, v.toList ++ rest, h')) (k2 : ∀ E, out = .inr E → aXA γ x k0 nL Q pc ls h' E) : aW x H locs cells slots Q (F0 (xm x) pc A st) := by
  intro T hT X
  have key : ∀ {st₀ t T' : State} {L : List Loc}, st₀.heap = H → T'.heap = t.heap → T'.vm = t.vm → (∀ z ∈ L, γ.2.2.1 ≤ z.base) → aRel γ t h' t.heap → va_F (fun q => γ.2.2.1 ≤ q) st₀ t → (xs x).WarmedH T'.vm → aIn γ x k0 nL h' ls T'.heap (locs ++ L) (cells + (h'.2.1 - h.2.1)) (slots + (h'.2.2.1 - h.2.2.1)) A := by
    intro st₀ t T' L h0 e1 e2 hL hrel hF hW
    obtain ⟨f1, f2, f3⟩ := vx_keep (T' := T') h0 e1 I.2.1 (fun _ _ z => z) (fun _ z => z) hL hF
    have hrel2 : aRel γ (xs x) h' T'.heap := by
      rw [e1]
      exact hrel.moved (by rw [← e2]; exact hW.alike.symm)
    have e5 := hrel2.1
    have e6 := I.1.1
    have e7 := I.2.2.1
    have e8 := I.2.2.2.1
    have l1 := hl.1
    have l2 := hl.2
    exact ⟨hrel2, f3, by omega, by omega, I.2.2.2.2⟩
  rcases hr T hT X with ⟨v, st₀, t, T', L, h0, X', hL, e1, e2, ⟨⟨v', ho, hv, hrel⟩, hF⟩, st1⟩ | ⟨q9, st₀, t, T', L, E, ce, h0, X', hL, e1, e2, ⟨⟨i, ho, hE, hrel⟩, hF⟩, hce, hvm, hcl, st1⟩
  · cases hv
    obtain ⟨t2, a1, b1⟩ := k1 v ho T'.heap _ _ _ A (key h0 e1 e2 hL hrel hF X'.warmed) T' rfl X'
    subst hn
    exact ⟨t2, st1 t2 a1, b1⟩
  · obtain ⟨t2, a1, b1⟩ := k2 i ho T'.heap _ _ _ A rest q9 ce (key h0 e1 e2 hL hrel hF X'.warmed) (by rw [e1]; exact hce) hvm (by rw [hE]; exact hcl) T' rfl X'
    exact ⟨t2, st1.trans a1, b1⟩
def SRunOK (γ : AG) (q : AMi) (pc y n : Nat) : Prop := ∀ (x : MC) (d : Nat), aCx γ x q (d + 1) → ∀ As h out h', aMet γ x.2.1 d y As h out h' → As.length = n → ∀ H locs cells slots A rest, aRel γ (xs x) h H → A.size = q.2.2.1 → (rest.map Value.category).sum ≤ 8 →
  cells + (h'.2.1 - h.2.1) ≤ x.2.2.2.1.cells → slots + (h'.2.2.1 - h.2.2.1) ≤ x.2.2.2.1.slots → aRun γ x H locs cells slots (F0 (xm x) pc A (As.reverse ++ rest)) rest h out h' As
def IRunOK (γ : AG) (q : AMi) (pc y n : Nat) : Prop := ∀ (x : MC) (d : Nat), aCx γ x q (d + 1) → ∀ b As h out h', aMet γ x.2.1 d y (.ref b :: As) h out h' → As.length = n → ∀ H locs cells slots A rest, aRel γ (xs x) h H → A.size = q.2.2.1 → (rest.map Value.category).sum ≤ 8 →
  cells + (h'.2.1 - h.2.1) ≤ x.2.2.2.1.cells → slots + (h'.2.2.1 - h.2.2.1) ≤ x.2.2.2.1.slots → aRun γ x H locs cells slots (F0 (xm x) pc A (As.reverse ++ .ref b :: rest)) rest h out h' (.ref b :: As)
def VRunOK (γ : AG) (q : AMi) (pc ci y n : Nat) : Prop := ∀ (x : MC) (d : Nat), aCx γ x q (d + 1) → ∀ b As h out h', aMet γ x.2.1 d y (.ref b :: As) h out h' → As.length = n → hci h b = some ci → ∀ H locs cells slots A rest, aRel γ (xs x) h H → A.size = q.2.2.1 → (rest.map Value.category).sum ≤ 8 →
  cells + (h'.2.1 - h.2.1) ≤ x.2.2.2.1.cells → slots + (h'.2.2.1 - h.2.2.1) ≤ x.2.2.2.1.slots → aRun γ x H locs cells slots (F0 (xm x) pc A (As.reverse ++ .ref b :: rest)) rest h out h' (.ref b :: As)
def VRun5OK (γ : AG) (q : AMi) (pc ci y n : Nat) : Prop := ∀ (x : MC) (d : Nat), aCx γ x q (d + 1) → ∀ b As h out h', aMet γ x.2.1 d y (.ref b :: As) h out h' → As.length = n → hci h b = some ci → ∀ H locs cells slots A rest, aRel γ (xs x) h H → A.size = q.2.2.1 → (rest.map Value.category).sum ≤ 8 →
  cells + (h'.2.1 - h.2.1) ≤ x.2.2.2.1.cells → slots + (h'.2.2.1 - h.2.2.1) ≤ x.2.2.2.1.slots → aRun5 γ x H locs cells slots (F0 (xm x) pc A (As.reverse ++ .ref b :: rest)) rest h out h' (.ref b :: As)
theorem okR_le {rest : List Value} (h : okR rest = true) : (rest.map Value.category).sum ≤ 8 := Nat.le_of_ble_eq_true h
theorem aRes_inv {nx : Nat} {ls : ALs} {rest : List Value} {r : Option (AOut × AH)} {z : ASt ⊕ (AOut × AH)} (h : aRes nx ls rest r = some z) : ∃ out h', r = some (out, h') ∧ rH z = h' ∧ z = (match out with
    | .inl v => .inl (nx, ls, v.toList ++ rest, h')
    | .inr E => .inr (.inr E, h')) := by
  unfold aRes at h
  split at h
  · cases h
  · cases h; exact ⟨_, _, rfl, rfl, rfl⟩
  · cases h; exact ⟨_, _, rfl, rfl, rfl⟩
theorem bif_inv {α : Type} {b : Bool} {z : Option α} {r : α} (h : (bif b then z else none) = some r) : b = true ∧ z = some r := by
  cases b with
  | false => cases h
  | true => exact ⟨rfl, h⟩
/-- what is common to the calls: from the machine's run to the instruction's soundness -/
theorem call_OK {γ : AG} {q : AMi} {x : MC} {k0 d nx pc y : Nat} {as : List Value} {h : AH} {ls : ALs} {st rest : List Value} {env : AEnv} {z : ASt ⊕ (AOut × AH)} (he : envOK γ x.2.1 d env) (hm : envMono env) (hz : aRes nx ls rest (env y as h) = some z)
    (b1 : (rH z).2.1 ≤ (xs x).heap.size + x.2.2.2.1.cells) (b2 : (rH z).2.2.1 ≤ k0 + x.2.2.2.1.slots) {Q : State → Prop} (K : aKont γ x k0 q.2.2.1 Q pc ls z) (hn : pc + 3 = nx)
    (hrun : ∀ out h', aMet γ x.2.1 d y as h out h' → ∀ H locs cells slots A, aRel γ (xs x) h H → A.size = q.2.2.1 → cells + (h'.2.1 - h.2.1) ≤ x.2.2.2.1.cells → slots + (h'.2.2.1 - h.2.2.1) ≤ x.2.2.2.1.slots → aRun γ x H locs cells slots (F0 (xm x) pc A st) rest h out h' as) : aWA γ x k0 q.2.2.1 Q (pc, ls, st, h) := by
  obtain ⟨out, h', hr, e1, e2⟩ := aRes_inv hz
  intro H locs cells slots A I
  have hl := hm _ _ _ _ _ hr
  rw [e1] at b1 b2
  have l1 := hl.1
  have l2 := hl.2
  have e3 := I.1.1
  have e4 := I.2.2.1
  have e5 := I.2.2.2.1
  dsimp only at e3 e5 b1 b2 l1 l2
  refine call_go (q := q) (d := d) hl I (hrun out h' (he _ _ _ _ _ hr) H locs cells slots A I.1 I.2.2.2.2.2.1 (by omega) (by omega)) hn (fun v ho => ?_) (fun E ho => ?_)
  · subst ho; subst e2; exact K
  · subst ho; subst e2; exact K
theorem call_OK5 {γ : AG} {q : AMi} {x : MC} {k0 d nx pc y : Nat} {as : List Value} {h : AH} {ls : ALs} {st rest : List Value} {env : AEnv} {z : ASt ⊕ (AOut × AH)} (he : envOK γ x.2.1 d env) (hm : envMono env) (hz : aRes nx ls rest (env y as h) = some z)
    (b1 : (rH z).2.1 ≤ (xs x).heap.size + x.2.2.2.1.cells) (b2 : (rH z).2.2.1 ≤ k0 + x.2.2.2.1.slots) {Q : State → Prop} (K : aKont γ x k0 q.2.2.1 Q pc ls z) (hn : pc + 5 = nx)
    (hrun : ∀ out h', aMet γ x.2.1 d y as h out h' → ∀ H locs cells slots A, aRel γ (xs x) h H → A.size = q.2.2.1 → cells + (h'.2.1 - h.2.1) ≤ x.2.2.2.1.cells → slots + (h'.2.2.1 - h.2.2.1) ≤ x.2.2.2.1.slots → aRun5 γ x H locs cells slots (F0 (xm x) pc A st) rest h out h' as) : aWA γ x k0 q.2.2.1 Q (pc, ls, st, h) := by
  obtain ⟨out, h', hr, e1, e2⟩ := aRes_inv hz
  intro H locs cells slots A I
  have hl := hm _ _ _ _ _ hr
  rw [e1] at b1 b2
  have l1 := hl.1
  have l2 := hl.2
  have e3 := I.1.1
  have e4 := I.2.2.1
  have e5 := I.2.2.2.1
  dsimp only at e3 e5 b1 b2 l1 l2
  refine call_go5 (q := q) (d := d) hl I (hrun out h' (he _ _ _ _ _ hr) H locs cells slots A I.1 I.2.2.2.2.2.1 (by omega) (by omega)) hn (fun v ho => ?_) (fun E ho => ?_)
  · subst ho; subst e2; exact K
  · subst ho; subst e2; exact K
theorem aRes_mono {env : AEnv} (hm : envMono env) {nx y : Nat} {ls : ALs} {rest as : List Value} {h : AH} {z : ASt ⊕ (AOut × AH)} (hz : aRes nx ls rest (env y as h) = some z) : hLe h (rH z) := by
  obtain ⟨out, h', hr, e1, e2⟩ := aRes_inv hz
  rw [e1]
  exact hm _ _ _ _ _ hr
section
variable {γ : AG} {q : AMi} {pc nx : Nat}
theorem ok_callS {y n : Nat} (hR : SRunOK γ q pc y n) (hn : pc + 3 = nx) : OpOK γ q pc (o_callS y n nx) ∧ OpMono (o_callS y n nx) := by
  refine ⟨?_, ?_⟩
  · intro x k0 d env C he hm ls st h r hr b1 b2 Q K
    obtain ⟨hb, hz⟩ := bif_inv hr
    obtain ⟨hb1, hb2⟩ := bsplit hb
    have hlen : n ≤ st.length := Nat.le_of_ble_eq_true hb1
    refine call_OK he hm hz b1 b2 K hn fun out h' hM H locs cells slots A hrel hA c1 c2 => ?_
    have key := hR x d C _ h out h' hM (by rw [List.length_reverse, List.length_take]; omega) H locs cells slots A (st.drop n) hrel hA (okR_le hb2) c1 c2
    rw [List.reverse_reverse, List.take_append_drop] at key
    exact key
  · intro env hm ls st h r hr
    exact aRes_mono hm (bif_inv hr).2
theorem drop_ref {st rest : List Value} {b n : Nat} (e : st.drop n = .ref b :: rest) : st = st.take n ++ .ref b :: rest := by
  rw [← e, List.take_append_drop]
theorem ok_callI {y n : Nat} (hR : IRunOK γ q pc y n) (hn : pc + 3 = nx) : OpOK γ q pc (o_callI y n nx) ∧ OpMono (o_callI y n nx) := by
  refine ⟨?_, ?_⟩
  · intro x k0 d env C he hm ls st h r hr b1 b2 Q K
    unfold o_callI at hr
    split at hr
    · next b rest e =>
      obtain ⟨hb, hz⟩ := bif_inv hr
      obtain ⟨hb1, hb2⟩ := bsplit hb
      have hlen : n ≤ st.length := Nat.le_of_ble_eq_true hb1
      refine call_OK he hm hz b1 b2 K hn fun out h' hM H locs cells slots A hrel hA c1 c2 => ?_
      have key := hR x d C b _ h out h' hM (by rw [List.length_reverse, List.length_take]; omega) H locs cells slots A rest hrel hA (okR_le hb2) c1 c2
      rw [List.reverse_reverse, ← drop_ref e] at key
      exact key
    · cases hr
  · intro env hm ls st h r hr
    unfold o_callI at hr
    split at hr
    · exact aRes_mono hm (bif_inv hr).2
    · cases hr
def lkN (L : List (Nat × Nat)) (ci : Nat) : Option Nat := match L with
  | [] => none
  | p :: r => bif Nat.beq p.1 ci then some p.2 else lkN r ci
theorem lkN_mem {L : List (Nat × Nat)} {ci y : Nat} (h : lkN L ci = some y) : (ci, y) ∈ L := by
  induction L with
  | nil => cases h
  | cons p r ih =>
    rw [lkN] at h
    cases hb : Nat.beq p.1 ci with
    | true =>
      rw [hb] at h
      have e1 := Nat.eq_of_beq_eq_true hb
      have e2 : p.2 = y := Option.some.inj h
      obtain ⟨a, b⟩ := p
      dsimp only at e1 e2
      subst e1 e2
      exact List.mem_cons_self
    | false =>
      rw [hb] at h
      exact List.mem_cons_of_mem _ (ih h)
theorem ok_callV {L : List (Nat × Nat)} {n : Nat} (hR : ∀ z ∈ L, VRunOK γ q pc z.1 z.2 n) (hn : pc + 3 = nx) : OpOK γ q pc (o_callV (lkN L) n nx) ∧ OpMono (o_callV (lkN L) n nx) := by
  refine ⟨?_, ?_⟩
  · intro x k0 d env C he hm ls st h r hr b1 b2 Q K
    unfold o_callV at hr
    split at hr
    · next b rest e =>
      split at hr
      · next ci hci' =>
        split at hr
        · next y hy =>
          obtain ⟨hb, hz⟩ := bif_inv hr
          obtain ⟨hb1, hb2⟩ := bsplit hb
          have hlen : n ≤ st.length := Nat.le_of_ble_eq_true hb1
          refine call_OK he hm hz b1 b2 K hn fun out h' hM H locs cells slots A hrel hA c1 c2 => ?_
          have key := hR _ (lkN_mem hy) x d C b _ h out h' hM (by rw [List.length_reverse, List.length_take]; omega) hci' H locs cells slots A rest hrel hA (okR_le hb2) c1 c2
          rw [List.reverse_reverse, ← drop_ref e] at key
          exact key
        · cases hr
      · cases hr
    · cases hr
  · intro env hm ls st h r hr
    unfold o_callV at hr
    split at hr
    · split at hr
      · split at hr
        · exact aRes_mono hm (bif_inv hr).2
        · cases hr
      · cases hr
    · cases hr
theorem ok_callF {L : List (Nat × Nat)} {n : Nat} (hR : ∀ z ∈ L, VRun5OK γ q pc z.1 z.2 n) (hn : pc + 5 = nx) : OpOK γ q pc (o_callV (lkN L) n nx) ∧ OpMono (o_callV (lkN L) n nx) := by
  refine ⟨?_, ?_⟩
  · intro x k0 d env C he hm ls st h r hr b1 b2 Q K
    unfold o_callV at hr
    split at hr
    · next b rest e =>
      split at hr
      · next ci hci' =>
        split at hr
        · next y hy =>
          obtain ⟨hb, hz⟩ := bif_inv hr
          obtain ⟨hb1, hb2⟩ := bsplit hb
          have hlen : n ≤ st.length := Nat.le_of_ble_eq_true hb1
          refine call_OK5 he hm hz b1 b2 K hn fun out h' hM H locs cells slots A hrel hA c1 c2 => ?_
          have key := hR _ (lkN_mem hy) x d C b _ h out h' hM (by rw [List.length_reverse, List.length_take]; omega) hci' H locs cells slots A rest hrel hA (okR_le hb2) c1 c2
          rw [List.reverse_reverse, ← drop_ref e] at key
          exact key
        · cases hr
      · cases hr
    · cases hr
  · intro env hm ls st h r hr
    unfold o_callV at hr
    split at hr
    · split at hr
      · split at hr
        · exact aRes_mono hm (bif_inv hr).2
        · cases hr
      · cases hr
    · cases hr
end
