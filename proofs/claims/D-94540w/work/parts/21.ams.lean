/-! ===== SOUNDNESS: what the machine's heap must be for an abstract one; what an instruction's soundness says ===== -/
/-- static fields (.., 0), Class objects (.., 1) and String constants (own, text, _, entry + 2) by their places -/
abbrev AKey : Type := String × String × String × Nat
/-- a method of the machine: name, bytes, locals, answer, table -/
abbrev AMi : Type := MethodName × ByteArray × Nat × Option FieldType × Option (List (Nat × Nat × Nat × Nat))
/-- the world: class ids and slots; array class ids; where writable cells begin; constants; methods; launch -/
abbrev AG : Type := va_G × (Nat → ClassId) × Nat × (Nat → Value) × (Nat → AMi) × List AKey
def aCon (z : (Nat → Int32) ⊕ ((Nat → Int64) ⊕ (Nat → Option Nat))) : Nat → Value := fun j => match z with
  | .inl f => .int (f j)
  | .inr (.inl f) => .long (f j)
  | .inr (.inr f) => va_rf (f j)
def a_at (γ : AG) (U : State) (a : Nat) (c : AC) (H : Heap) : Prop := match c with
  | (true, .inl k) => γ.2.2.1 ≤ a ∧ k.1 < tyT.length ∧ H[a]? = some (arrV (γ.2.1 k.1) k.2.1 (aCon k.2.2))
  | (true, .inr o) => γ.2.2.1 ≤ a ∧ ∃ r, clT[o.1]? = some r ∧ t_OB a (γ.1.1 o.1) r.2.2 (γ.1.2 o.1) H (vp_V o.2)
  | (false, .inl k) => a < γ.2.2.1 ∧ ∃ cell ty, tyT[k.1]? = some ty ∧ H[a]? = some cell ∧ U.isArrayOf cell ty ∧ cell.vm ≠ .unknown ∧ cell.slots.size = k.2.1 ∧ (∀ j, j < k.2.1 → cell.slots[j]? = some (aCon k.2.2 j)) ∧ (k.1 = 5 → U.vm.findClass "[LFavourTown$Fact;" = some cell.cls) ∧ (k.1 = 3 → U.vm.findClass "[Ljava/lang/Object;" = some cell.cls)
  | (false, .inr o) => a < γ.2.2.1 ∧ ∃ r cell, clR[o.1]? = some r ∧ H[a]? = some cell ∧ cell.vm ≠ .unknown ∧ cell.vm.isStatics = false ∧ U.vm.findClass r.1 = some cell.cls ∧
      ∀ k v, o.2[k]? = some v → ∃ cf kk i f, U.fieldFound? (r.2.1 k).1 (r.2.1 k).2.1 (r.2.1 k).2.2.1 = some (cf, kk, i, f) ∧ f.isStatic = false ∧ cell.slots[f.slot]? = some v
def aKey (γ : AG) (U : State) (i : Nat) (q : AKey) : Prop := match q.2.2.2 with
  | 0 => True
  | 1 => ∃ a, γ.2.2.2.1 i = .ref a ∧ va_Mi q.1 a U
  | k + 2 => ∃ a, γ.2.2.2.1 i = .ref a ∧ vk_R q.1 k q.2.1 a U
def aRel (γ : AG) (U : State) (h : AH) (H : Heap) : Prop :=
  h.2.1 = H.size ∧ γ.2.2.1 ≤ H.size ∧ (∀ a c, h.1 a = some c → a_at γ U a c H) ∧ h.2.2.2 = γ.2.2.2.1 ∧ (∀ i q, γ.2.2.2.2.2[i]? = some q → q.2.2.2 = 0 → va_Z q.1 q.2.1 q.2.2.1 (γ.2.2.2.1 i) (fun q => γ.2.2.1 ≤ q) U H) ∧
  vx_Zq Bundle.tN "UNASSIGNED_STACK" Bundle.steD (fun q => γ.2.2.1 ≤ q) U H ∧ vx_Zq Bundle.tN "SUPPRESSED_SENTINEL" Bundle.listD (fun q => γ.2.2.1 ≤ q) U H
/-- words that don't ride in the lists, but are taken along a call -/
def nwk (w : Cond) : Bool := match w with
  | .fieldLinkNest .. => true
  | .methodLinkNest .. => true
  | .castable .. => true
  | .declares .. => true
  | _ => false
abbrev atys (γ : AG) : List (ClassId × FieldType) := [(γ.2.1 0, .int), (γ.2.1 1, .byte), (γ.2.1 2, .long), (γ.2.1 3, .object "java/lang/Object"), (γ.2.1 4, .array .int), (γ.2.1 5, .object "FavourTown$Fact")]
def yHolds (C : String) : MethodName := ⟨C, "holds", "(LFavourTown$Scene;)Z"⟩
def fwT : List (String × MethodName × MethodName) := [(RX14, yHolds "FavourTown$Cond", yHolds RX14), (RX15, yHolds "FavourTown$Cond", yHolds RX15), (RX16, yHolds "FavourTown$Cond", yHolds RX16), (RX20, yHolds "FavourTown$Cond", yHolds RX20), (RJ2, ⟨"java/util/Collection", "toArray", "()[Ljava/lang/Object;"⟩, ⟨RJ2, "toArray", "()[Ljava/lang/Object;"⟩)]
def ncT : List (String × String) := [(RJ19, RJ16), (RJ22, RJ20), (RJ16, RJ20), (RJ22, RJ16)]
def yEci : MethodName := ⟨"java/lang/AbstractStringBuilder", "ensureCapacityInternal", "(I)V"⟩
def yNewCap : MethodName := ⟨"java/lang/AbstractStringBuilder", "newCapacity", "(I)I"⟩
def exW : List Cond := [.selects "java/lang/StringBuilder" yEci yEci, .selects "java/lang/StringBuilder" yNewCap yNewCap]
theorem exW_ok : ∀ w ∈ exW, (w.onTables && w.keeps) = true ∧ w.onTables = true := by decide +kernel
def aTab (γ : AG) (U : State) : Prop :=
  va_K γ.1 clT (atys γ) U ∧ (∀ w ∈ lw_tbl, nwk w = true → va_Nw w U) ∧ va_AO "java/lang/Object" U ∧ (va_Nw (.arrayOver (.array .int)) U ∧ ∀ w ∈ exW, va_Nw w U) ∧ (∀ q ∈ fwT, va_Fw q.1 q.2.1 q.2.2 U) ∧ (∀ q ∈ ncT, va_Nc q.1 q.2 U) ∧ ∀ i q, γ.2.2.2.2.2[i]? = some q → aKey γ U i q
theorem atys_at {γ : AG} {t : Nat} {ty : FieldType} (h : tyT[t]? = some ty) : (atys γ)[t]? = some (γ.2.1 t, ty) := by
  match t, h with
  | 0, h => cases h; rfl
  | 1, h => cases h; rfl
  | 2, h => cases h; rfl
  | 3, h => cases h; rfl
  | 4, h => cases h; rfl
  | 5, h => cases h; rfl
  | t + 6, h => simp [tyT] at h
theorem a_at.moved {γ : AG} {u U : State} {a : Nat} {c : AC} {H : Heap} (hvm : u.vm.Alike U.vm) (h : a_at γ u a c H) : a_at γ U a c H := by
  match c, h with
  | (true, .inl k), h => exact h
  | (true, .inr o), h => exact h
  | (false, .inl k), h =>
    obtain ⟨h0, cell, ty, h1, h2, h3, h4, h5, h6, h7, h8⟩ := h
    exact ⟨h0, cell, ty, h1, h2, State.isArrayOf_alike hvm h3, h4, h5, h6, fun e => by rw [hvm.findClass]; exact h7 e, fun e => by rw [hvm.findClass]; exact h8 e⟩
  | (false, .inr o), h =>
    obtain ⟨h0, r, cell, h1, h2, h3, h4, h5, h6⟩ := h
    refine ⟨h0, r, cell, h1, h2, h3, h4, by rw [hvm.findClass]; exact h5, fun k v hv => ?_⟩
    obtain ⟨cf, kk, i, f, g1, g2, g3⟩ := h6 k v hv
    obtain ⟨k', hi', -⟩ := State.fieldFound?_setVm hvm g1
    exact ⟨cf, k', i, f, hi', g2, g3⟩
theorem aRel.moved {γ : AG} {u U : State} {h : AH} {H : Heap} (hvm : u.vm.Alike U.vm) (r : aRel γ u h H) : aRel γ U h H :=
  ⟨r.1, r.2.1, fun a c hc => (r.2.2.1 a c hc).moved hvm, r.2.2.2.1, fun i q hi h0 => va_Z.moved hvm (r.2.2.2.2.1 i q hi h0), vx_Zq.moved hvm r.2.2.2.2.2.1, vx_Zq.moved hvm r.2.2.2.2.2.2⟩
theorem nw_warm {s U : State} (hW : s.WarmedH U.vm) {w : Cond} (hk : nwk w = true) (h : va_Nw w s) : va_Nw w U := by
  cases w <;> first
    | exact va_Nw.warmF hW h
    | exact va_Nw.warmM hW h
    | exact va_Nw.warmC hW h
    | exact va_Nw.warmD hW h
    | (simp [nwk] at hk)
theorem ao_moved {u U : State} (hvm : u.vm.Alike U.vm) (h : va_Nw (.arrayOver (.array .int)) u) : va_Nw (.arrayOver (.array .int)) U := by
  unfold va_Nw Cond.before Cond.holds at h ⊢
  simp only [Cond.value, beq_iff_eq, Option.bind_eq_some_iff, Option.map_eq_some_iff] at h ⊢
  obtain ⟨comp, h1, c, h2, k, h3, h4⟩ := h
  obtain ⟨k', hk', he⟩ := hvm.2.2 _ _ h3
  refine ⟨comp, by rw [hvm.findClass]; exact h1, c, ?_, k', hk', ?_⟩
  · have h2' : (u.vm.classes.findIdx? fun (x : Class) => match x.kind with | .array component _ => component == comp | _ => false) = some c := h2
    have g := ((va_idx_bare U.vm comp).symm.trans ((congrArg (fun v : Vm => v.classes.findIdx? fun (x : Class) => match x.kind with | .array component _ => component == comp | _ => false) hvm.bare_eq).trans (va_idx_bare u.vm comp))).trans h2'
    exact g
  · rw [he]
    split at h4
    · next a b e =>
      split
      · next a' b' e' =>
        rw [e] at e'
        cases e'
        rw [hvm.findClass]
        exact h4
      · next n => exact absurd e (n _ _)
    · cases h4
theorem fwT_ok : ∀ q ∈ fwT, q.2.1.cls ≠ "java/lang/invoke/MethodHandle" ∧ q.2.1.cls ≠ "java/lang/invoke/VarHandle" := by decide +kernel
theorem aTab.warm {γ : AG} {s U : State} (hW : s.WarmedH U.vm) (h : aTab γ s) : aTab γ U := by
  obtain ⟨h1, h2, h3, h3b, h4, h5, h6⟩ := h
  refine ⟨va_K.moved hW.alike h1, fun w hw hk => nw_warm hW hk (h2 w hw hk), va_AO.moved hW.alike h3, ⟨ao_moved hW.alike h3b.1, fun w hw => word_at hW (Or.inl (exW_ok w hw).1) (h3b.2 w hw)⟩, fun q hq => va_Fw.moved (fwT_ok q hq) hW.alike (h4 q hq), fun q hq => va_Nc.moved hW.alike (h5 q hq), fun i q hi => ?_⟩
  have g := h6 i q hi
  unfold aKey at g ⊢
  split
  · trivial
  · next h0 =>
    rw [h0] at g
    obtain ⟨a, g1, g2⟩ := g
    exact ⟨a, g1, va_Mi.moved hW.alike g2⟩
  · next k h0 =>
    rw [h0] at g
    obtain ⟨a, g1, g2⟩ := g
    exact ⟨a, g1, vk_R.warm hW g2⟩
/-- the locals -/
def aLs (nL : Nat) (A : Array Slot) (ls : ALs) : Prop := ls.length = nL ∧ A.size = nL ∧ lv_wf A ∧ ∀ (i : Nat) (v : Value), ls[i]? = some (some v) → A[i]? = some (Slot.val v) ∧ isC1 v = true
abbrev MC : Type := Program × Launch × Env × Room × State × MethodId × Array Value × List Frame × Method × Code
abbrev aW (x : MC) (H : Heap) (locs : List Loc) (cells slots : Nat) (Q : State → Prop) (g : JFrame) : Prop := W x.1 x.2.1 x.2.2.1 x.2.2.2.1 x.2.2.2.2.1 x.2.2.2.2.2.1 x.2.2.2.2.2.2.1 x.2.2.2.2.2.2.2.1 x.2.2.2.2.2.2.2.2.1 x.2.2.2.2.2.2.2.2.2 H locs cells slots Q g
abbrev aVW (x : MC) (H : Heap) (locs : List Loc) (cells slots : Nat) (Q : State → Prop) (g : JFrame) (q : Addr) : Prop := vx_W x.1 x.2.1 x.2.2.1 x.2.2.2.1 x.2.2.2.2.1 x.2.2.2.2.2.1 x.2.2.2.2.2.2.1 x.2.2.2.2.2.2.2.1 x.2.2.2.2.2.2.2.2.1 x.2.2.2.2.2.2.2.2.2 H locs cells slots Q g q
abbrev xs (x : MC) : State := x.2.2.2.2.1
abbrev xm (x : MC) : MethodId := x.2.2.2.2.2.1
/-- the machine's heap H stands for h, in a method begun at x, k0 slots being used by then -/
def aIn (γ : AG) (x : MC) (k0 nL : Nat) (h : AH) (ls : ALs) (H : Heap) (locs : List Loc) (cells slots : Nat) (A : Array Slot) : Prop :=
  aRel γ (xs x) h H ∧ va_S (fun q => γ.2.2.1 ≤ q) (xs x).heap H locs ∧ cells + (xs x).heap.size = H.size ∧ slots + k0 = h.2.2.1 ∧ aLs nL A ls
def aWA (γ : AG) (x : MC) (k0 nL : Nat) (Q : State → Prop) (t : ASt) : Prop := ∀ H locs cells slots A, aIn γ x k0 nL t.2.2.2 t.2.1 H locs cells slots A → aW x H locs cells slots Q (F0 (xm x) t.1 A t.2.2.1)
def eName (E : Nat) : String := match clT[E]? with
  | some q => q.1
  | none => ""
def aXA (γ : AG) (x : MC) (k0 nL : Nat) (Q : State → Prop) (pc : Nat) (ls : ALs) (h : AH) (E : Nat) : Prop := ∀ H locs cells slots A rest q ce, aIn γ x k0 nL h ls H locs cells slots A → H[q]? = some ce → ce.vm = .none → (xs x).vm.findClass (eName E) = some ce.cls →
  aVW x H locs cells slots Q (F0 (xm x) pc A rest) q
def aQc (γ : AG) (out : AOut) (hf : AH) : Array Value → State → Outcome → State → Prop := fun _ st o t => (∃ v, out = .inl v ∧ o = .returned v ∧ aRel γ t hf t.heap) ∧ va_F (fun q => γ.2.2.1 ≤ q) st t
def aXc (γ : AG) (out : AOut) (hf : AH) : String → State → State → Prop := fun E st t => (∃ i, out = .inr i ∧ eName i = E ∧ aRel γ t hf t.heap) ∧ va_F (fun q => γ.2.2.1 ≤ q) st t
def aQ (γ : AG) (x : MC) (k0 : Nat) (out : AOut) (hf : AH) : State → Prop := vx_MQ x.2.2.2.2.2.2.2.1 (aQc γ out hf) (aXc γ out hf) x.2.2.2.2.2.2.1 (xs x) (hf.2.1 - (xs x).heap.size) (hf.2.2.1 - k0) (fun q => γ.2.2.1 ≤ q)
def aKont (γ : AG) (x : MC) (k0 nL : Nat) (Q : State → Prop) (pc : Nat) (ls : ALs) (r : ASt ⊕ (AOut × AH)) : Prop := match r with
  | .inl t => aWA γ x k0 nL Q t
  | .inr (.inl v, h) => Q = aQ γ x k0 (.inl v) h
  | .inr (.inr E, h) => aXA γ x k0 nL Q pc ls h E
def rH (r : ASt ⊕ (AOut × AH)) : AH := match r with
  | .inl t => t.2.2.2
  | .inr q => q.2
def kws (q : AMi) : List Cond := match q.2.2.2.2 with
  | none => ws_ q.1 q.2.1 q.2.2.1 q.2.2.2.1
  | some hh => wsW_ q.1 q.2.1 q.2.2.1 q.2.2.2.1 hh
def aRoom (d : Nat) (h h' : AH) : Room := { frames := d + 10, cells := h'.2.1 - h.2.1, slots := h'.2.2.1 - h.2.2.1, locals := 100 * d + 200 }
def aPc (γ : AG) (as : List Value) (h : AH) : Array Value → State → Prop := va_Pc as (fun U => aTab γ U ∧ aRel γ U h U.heap)
def aMet (γ : AG) (l : Launch) (d y : Nat) (as : List Value) (h : AH) (out : AOut) (h' : AH) : Prop :=
  vx_Met l (γ.2.2.2.2.1 y).1 (kws (γ.2.2.2.2.1 y)) (aRoom d h h') (aPc γ as h) (aQc γ out h') (aXc γ out h') (h'.2.1 - h.2.1) (h'.2.2.1 - h.2.2.1) (fun q => γ.2.2.1 ≤ q)
def hLe (h h' : AH) : Prop := h.2.1 ≤ h'.2.1 ∧ h.2.2.1 ≤ h'.2.2.1
def envMono (env : AEnv) : Prop := ∀ y as h o h', env y as h = some (o, h') → hLe h h'
def envOK (γ : AG) (l : Launch) (d : Nat) (env : AEnv) : Prop := ∀ y as h o h', env y as h = some (o, h') → aMet γ l d y as h o h'
/-- what holds all through a method's body -/
def aCx (γ : AG) (x : MC) (q : AMi) (d : Nat) : Prop :=
  x.1.tables.exec = Jvm.exec ∧ x.2.2.2.2.2.2.2.2.2.code = q.2.1 ∧ x.2.2.2.2.2.2.2.2.2.maxLocals = q.2.2.1 ∧ (xs x).vm.findClass q.1.cls = some (xm x).cls ∧
  (∀ w ∈ lw_all, w.before x.2.2.2.2.2.2.1 (xs x) = true) ∧ aTab γ (xs x) ∧ x.2.2.2.2.2.2.2.2.1.locks = false ∧ x.2.1.stackTraces = false ∧
  d + 10 ≤ x.2.2.2.1.frames ∧ 100 * d + 200 ≤ x.2.2.2.1.locals ∧ γ.2.2.1 ≤ (xs x).heap.size ∧ x.2.2.2.2.2.2.2.2.1.name = q.1.name ∧ x.2.2.2.2.2.2.2.2.1.sig.returnType = q.2.2.2.1
def OpOK (γ : AG) (q : AMi) (pc : Nat) (op : AOp) : Prop := ∀ (x : MC) (k0 d : Nat) (env : AEnv), aCx γ x q (d + 1) → envOK γ x.2.1 d env → envMono env → ∀ ls st h r, op env ls st h = some r →
  (rH r).2.1 ≤ (xs x).heap.size + x.2.2.2.1.cells → (rH r).2.2.1 ≤ k0 + x.2.2.2.1.slots → ∀ Q, aKont γ x k0 q.2.2.1 Q pc ls r → aWA γ x k0 q.2.2.1 Q (pc, ls, st, h)
def OpMono (op : AOp) : Prop := ∀ env, envMono env → ∀ ls st h r, op env ls st h = some r → hLe h (rH r)
theorem hLe.rf {h : AH} : hLe h h := ⟨Nat.le_refl _, Nat.le_refl _⟩
theorem hLe.tr {a b c : AH} (h : hLe a b) (g : hLe b c) : hLe a c := ⟨Nat.le_trans h.1 g.1, Nat.le_trans h.2 g.2⟩
theorem arun_le {env : AEnv} {cd : Nat → Option AOp} {hd : AHd} (he : envMono env) (hc : ∀ pc op, cd pc = some op → OpMono op) : ∀ f s r, arun env cd hd f s = some r → hLe s.2.2.2 r.2 := by
  intro f
  induction f with
  | zero => intro s r h; cases h
  | succ f ih =>
    intro s r h
    rw [arun] at h
    cases hcs : cd s.1 with
    | none => rw [hcs] at h; cases h
    | some op =>
      rw [hcs] at h
      dsimp only at h
      cases ho : op env s.2.1 s.2.2.1 s.2.2.2 with
      | none => rw [ho] at h; cases h
      | some z =>
        rw [ho] at h
        have hm := hc _ _ hcs env he _ _ _ _ ho
        match z, h, hm with
        | .inl s', h, hm => exact hm.tr (ih s' r h)
        | .inr (.inl v, h1), h, hm => cases h; exact hm
        | .inr (.inr E, h1), h, hm =>
          dsimp only at h
          match hh : hd s.1 E with
          | none => rw [hh] at h; cases h
          | some none => rw [hh] at h; cases h; exact hm
          | some (some q) => rw [hh] at h; exact hm.tr (ih _ r h)
/-- handlers: what a thrown class owes at a pc: it is caught, or goes out -/
def HdOK (γ : AG) (q : AMi) (hd : AHd) (pc E : Nat) : Prop := ∀ (x : MC) (k0 d : Nat), aCx γ x q (d + 1) → (x.2.2.2.2.2.2.2.2.2.exceptionTable.toList = match q.2.2.2.2 with
    | none => []
    | some hh => tableOf hh) →
  ∀ ls h, match hd pc E with
    | none => True
    | some none => (h.2.1 ≤ (xs x).heap.size + x.2.2.2.1.cells → h.2.2.1 ≤ k0 + x.2.2.2.1.slots → aXA γ x k0 q.2.2.1 (aQ γ x k0 (.inr E) h) pc ls h E)
    | some (some r) => ∀ Q, aWA γ x k0 q.2.2.1 Q (r.1, ls.set r.2 none, [], h) → aXA γ x k0 q.2.2.1 Q pc ls h E
/-- the run of a method's body -/
theorem arun_W {γ : AG} {q : AMi} {x : MC} {k0 d : Nat} {env : AEnv} {cd : Nat → Option AOp} {hd : AHd} (C : aCx γ x q (d + 1)) (htab : x.2.2.2.2.2.2.2.2.2.exceptionTable.toList = match q.2.2.2.2 with
    | none => []
    | some hh => tableOf hh) (he : envOK γ x.2.1 d env) (hm : envMono env) (hc : ∀ pc op, cd pc = some op → OpOK γ q pc op ∧ OpMono op) (hh : ∀ pc op E, cd pc = some op → HdOK γ q hd pc E) :
    ∀ f t out hf, arun env cd hd f t = some (out, hf) → hf.2.1 ≤ (xs x).heap.size + x.2.2.2.1.cells → hf.2.2.1 ≤ k0 + x.2.2.2.1.slots → aWA γ x k0 q.2.2.1 (aQ γ x k0 out hf) t := by
  intro f
  induction f with
  | zero => intro t out hf h; cases h
  | succ f ih =>
    intro t out hf h b1 b2
    have hle := fun f s r h => arun_le hm (fun pc op h => (hc pc op h).2) (hd := hd) f s r h
    rw [arun] at h
    cases hcs : cd t.1 with
    | none => rw [hcs] at h; cases h
    | some op =>
      rw [hcs] at h
      dsimp only at h
      cases ho : op env t.2.1 t.2.2.1 t.2.2.2 with
      | none => rw [ho] at h; cases h
      | some z =>
        rw [ho] at h
        have key := (hc _ _ hcs).1 x k0 d env C he hm _ _ _ _ ho
        match z, h, key with
        | .inl s', h, key =>
          have l1 := hle f s' _ h
          exact key (Nat.le_trans l1.1 b1) (Nat.le_trans l1.2 b2) _ (ih s' out hf h b1 b2)
        | .inr (.inl v, h1), h, key =>
          cases h
          exact key b1 b2 _ rfl
        | .inr (.inr E, h1), h, key =>
          dsimp only at h
          have hE := hh t.1 op E hcs x k0 d C htab t.2.1 h1
          match hhe : hd t.1 E with
          | none => rw [hhe] at h; cases h
          | some none =>
            rw [hhe] at h hE
            cases h
            exact key b1 b2 _ (hE b1 b2)
          | some (some r) =>
            rw [hhe] at h hE
            have l1 := hle f _ _ h
            exact key (Nat.le_trans l1.1 b1) (Nat.le_trans l1.2 b2) _ (hE _ (ih _ out hf h b1 b2))
