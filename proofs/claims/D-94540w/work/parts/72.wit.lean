/-! ===== the model: witnesses ===== -/
/-- but for who holds what, the row is the same -/
def SmH (m m' : Nat → Int32) : Prop := ∀ i, (∀ f, f < 40 → i ≠ 140 + 20 * f + 2) → m' i = m i
theorem SmH.refl {m : Nat → Int32} : SmH m m := fun _ _ => rfl
theorem SmH.uf' {m m' : Nat → Int32} (h : SmH m m') {f : Nat} {v : Int32} (hf : f < 40) : SmH m (uf m' (140 + 20 * f + 2) v) := fun i hi => (uf_ne (hi f hf)).trans (h i hi)
theorem SmH.ext {m m' : Nat → Int32} (h : SmH m m') (hh : ∀ f, f < 40 → m' (140 + 20 * f + 2) = m (140 + 20 * f + 2)) : m' = m := by
  funext i
  by_cases hi : ∀ f, f < 40 → i ≠ 140 + 20 * f + 2
  · exact h i hi
  · have : ∃ f, f < 40 ∧ i = 140 + 20 * f + 2 := by
      apply Classical.byContradiction
      intro hn
      exact hi (fun f hf he => hn ⟨f, hf, he⟩)
    obtain ⟨f, hf, he⟩ := this
    rw [he]; exact hh f hf
theorem SmH.vt {m m' : Nat → Int32} (h : SmH m m') {t : Nat} (hv : VT m t) : VT m' t := by
  obtain ⟨h6, L, h1, h2, z, h3⟩ := hv
  have hx : ∀ k, m' (940 + k) = m (940 + k) := fun k => h _ (fun f hf => by omega)
  have e : (fun k => m' (940 + 401 * t + 1 + k)) = fun k => m (940 + 401 * t + 1 + k) := funext fun k => by
    have := hx (401 * t + 1 + k)
    rwa [show 940 + (401 * t + 1 + k) = 940 + 401 * t + 1 + k by omega] at this
  exact ⟨h6, L, by rw [hx]; exact h1, h2, z, by rw [e]; exact h3⟩
theorem SmH.okT {m m' : Nat → Int32} (h : SmH m m') (ht : OkT m) : OkT m' := by
  intro p hp
  rw [h _ (fun f hf => by omega)]
  rcases ht p hp with h1 | ⟨t, h1, h2⟩
  · exact Or.inl h1
  · exact Or.inr ⟨t, h1, h.vt h2⟩
theorem SmH.okFs {m m' : Nat → Int32} {N : Nat} (h : SmH m m') (h40 : N ≤ 40) (ho : OkFs m N) : OkFs m' N := by
  intro f hf
  obtain ⟨g, len, h1, h2, h3, h4⟩ := ho f hf
  exact ⟨g, len, by rw [h _ (fun f hf => by omega)]; exact h1, h2, by rw [h _ (fun f hf => by omega)]; exact h3, h4⟩
theorem SmH.okN {m m' : Nat → Int32} {K : Nat} (h : SmH m m') (h12 : K ≤ 12) (ho : OkN m K) : OkN m' K := by
  intro k hk
  obtain ⟨a, b, h1, h2, h3, h4⟩ := ho k hk
  exact ⟨a, b, by rw [h _ (fun f hf => by omega)]; exact h1, h2, by rw [h _ (fun f hf => by omega)]; exact h3, h4⟩
theorem lets_sm {m : Nat → Int32} {s : Int32} {N : Nat} (h40 : N ≤ 40) : SmH m (sp_lets m s N).1 := by
  have key : ∀ k, k ≤ 40 → SmH m (sp_lets m s k).1 := by
    intro k
    induction k with
    | zero => intro _; exact SmH.refl
    | succ k ih =>
      intro hk
      have ih := ih (by omega)
      have es : sp_lets m s (k + 1) = st_lets s k (sp_lets m s k) := rfl
      rw [es]
      unfold st_lets
      split
      · exact ih
      · exact ih.uf' (by omega)
  exact key N h40
/-- the first that holds, from k on -/
def fsF (g : Nat → Bool) : Nat → Nat → Nat
  | 0, k => k
  | j + 1, k => if g k = true then k else fsF g j (k + 1)
def sp_wit (m : Nat → Int32) (N K : Nat) (set : Int32) : Int32 := if fsF (fun k => !sp_cneed (sp_lets m set N).1 N k) K 0 < K then nI (fsF (fun k => !sp_cneed (sp_lets m set N).1 N k) K 0) else -1
/-- the row is kept, and what is not for a time only -/
def Kp (M M' : MS) : Prop := M'.2 0 = M.2 0 ∧ M'.2 1 = M.2 1 ∧ M'.2 3 = M.2 3 ∧ M'.1 3 = M.1 3 ∧ M'.1 6 = M.1 6 ∧ M'.1 10 = M.1 10 ∧ M'.1 0 = M.1 0
theorem Kp.rfl' {M : MS} : Kp M M := ⟨rfl, rfl, rfl, rfl, rfl, rfl, rfl⟩
theorem Kp.trans {M M' M'' : MS} (a : Kp M M') (b : Kp M' M'') : Kp M M'' := ⟨b.1.trans a.1, b.2.1.trans a.2.1, b.2.2.1.trans a.2.2.1, b.2.2.2.1.trans a.2.2.2.1, b.2.2.2.2.1.trans a.2.2.2.2.1, b.2.2.2.2.2.1.trans a.2.2.2.2.2.1, b.2.2.2.2.2.2.trans a.2.2.2.2.2.2⟩
theorem Sc.kp {M M' : MS} (a : Sc M M') : Kp M M' := ⟨a.1 0 (by decide), a.1 1 (by decide), a.1 3 (by decide), a.2 3 (by decide) (by decide) (by decide) (by decide) (by decide), a.2 6 (by decide) (by decide) (by decide) (by decide) (by decide), a.2 10 (by decide) (by decide) (by decide) (by decide) (by decide), a.2 0 (by decide) (by decide) (by decide) (by decide) (by decide)⟩
