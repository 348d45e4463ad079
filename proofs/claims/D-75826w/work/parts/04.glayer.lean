/-! THE G-LAYER: the tracked cells of the heap as ONE function G of addresses; a row an instruction over it; a contract gMet; no cutting, no joining: what a callee leaves alone is what G says it leaves alone. Cells below L0 are read only. -/
abbrev GH : Type := Nat → Option va_E
def gU (G : GH) (a : Nat) (e : va_E) : GH := fun q => if q = a then some e else G q
theorem gU_s {G : GH} {a : Nat} {e : va_E} : gU G a e a = some e := if_pos rfl
theorem gU_n {G : GH} {a q : Nat} {e : va_E} (h : q ≠ a) : gU G a e q = G q := if_neg h
/-- the cells that a method may write: the tracked ones from L0 on, and the new ones -/
def gA (L0 : Nat) (G : GH) (sz : Nat) : Nat → Prop := fun q => (L0 ≤ q ∧ ∃ e, G q = some e) ∨ sz ≤ q
/-- what is known of the tables and of the read-only heap: (cells that may be written, state, heap) -/
abbrev gKT : Type := (Nat → Prop) → State → Heap → Prop
def gMv (K : gKT) : Prop := (∀ A s U H, s.WarmedH U.vm → K A s H → K A U H) ∧ (∀ A s U H, U.vm = s.vm → K A s H → K A U H) ∧ (∀ A s H H1, (∀ a : Nat, a < H.size → ¬ A a → H1[a]? = H[a]?) → K A s H → K A s H1) ∧ (∀ (A B : Nat → Prop) s H, (∀ q, B q → A q) → K A s H → K B s H)
def gKo (D : va_G) (cl : List vw_C) (tys : List (ClassId × FieldType)) (K : gKT) : Prop := gMv K ∧ ∀ A s H, K A s H → va_K D cl tys s
def gJ (D : va_G) (cl : List vw_C) (L0 : Nat) (A : Nat → Prop) (H0 : Heap) (G : GH) (n : Nat) (H : Heap) (locs : List Loc) : Prop :=
  (∀ a e, G a = some e → va_at D cl (a, e) H) ∧ (∀ a e, G a = some e → L0 ≤ a → A a) ∧ va_S A H0 H locs ∧ (∀ q : Nat, H0.size ≤ q → A q) ∧ H.size = n
def gPc (D : va_G) (cl : List vw_C) (L0 : Nat) (K : gKT) (av : List Value) (G : GH) (sz : Nat) : Array Value → State → Prop := fun v U => v = av.toArray ∧ U.heap.size = sz ∧ K (gA L0 G sz) U U.heap ∧ ∀ a e, G a = some e → va_at D cl (a, e) U.heap
def gQc (D : va_G) (cl : List vw_C) (L0 : Nat) (G : GH) (sz : Nat) (RR : Option Value → GH → Nat → Prop) : Array Value → State → Outcome → State → Prop := fun _ st oc t => (∃ v G', oc = .returned v ∧ RR v G' t.heap.size ∧ ∀ a e, G' a = some e → va_at D cl (a, e) t.heap ∧ (L0 ≤ a → gA L0 G sz a)) ∧ va_F (gA L0 G sz) st t
def gMet (l : Launch) (y : MethodName) (ws : List Cond) (D : va_G) (cl : List vw_C) (L0 : Nat) (K : gKT) (av : List Value) (G : GH) (sz fr lo mc ms : Nat) (RR : Option Value → GH → Nat → Prop) : Prop :=
  Met l y ws ({ frames := fr, cells := mc, slots := ms, locals := lo } : Room) (gPc D cl L0 K av G sz) (gQc D cl L0 G sz RR) mc ms (gA L0 G sz)
def gX (p : Program) (m : MethodId) (c : Code) (cc : ByteArray) (nL : Nat) (s : State) (args : Array Value) (own : String) (D : va_G) (cl : List vw_C) (tys : List (ClassId × FieldType)) (K : gKT) (A : Nat → Prop) (R rm : Room) : Prop :=
  CallFix p m c cc nL s args lw_all own ∧ va_K D cl tys s ∧ gKo D cl tys K ∧ K A s s.heap ∧ R = rm
theorem gPc_blind {D : va_G} {cl : List vw_C} {tys : List (ClassId × FieldType)} {L0 : Nat} {K : gKT} (hK : gKo D cl tys K) {av : List Value} {G : GH} {sz : Nat} : FrameBlind (gPc D cl L0 K av G sz) := by
  intro a U g mk h
  obtain ⟨h1, h2, h3, h4⟩ := h
  exact ⟨h1, h2, hK.1.2.1 _ U (U.calling g mk a) _ rfl h3, h4⟩
theorem gJ.lt {D : va_G} {cl : List vw_C} {L0 : Nat} {A : Nat → Prop} {H0 : Heap} {G : GH} {n : Nat} {H : Heap} {locs : List Loc} (h : gJ D cl L0 A H0 G n H locs) {a : Nat} {e : va_E} (he : G a = some e) : a < n := by
  rw [← h.2.2.2.2]
  exact (h.1 a e he).lt
theorem gJ.new0 {D : va_G} {cl : List vw_C} {L0 : Nat} {A : Nat → Prop} {H0 : Heap} {G : GH} {n : Nat} {H : Heap} {locs : List Loc} (h : gJ D cl L0 A H0 G n H locs) : G n = none := by
  cases hg : G n with
  | none => rfl
  | some e => exact absurd (h.lt hg) (Nat.lt_irrefl _)
theorem gJ.put {D : va_G} {cl : List vw_C} {L0 : Nat} {A : Nat → Prop} {H0 : Heap} {G : GH} {n : Nat} {H H1 : Heap} {locs : List Loc} (h : gJ D cl L0 A H0 G n H locs) {a k : Nat} {e0 e : va_E} (he : G a = some e0) (hL : L0 ≤ a) (h1 : va_at D cl (a, e) H1) (z : H1.size = H.size) (oq : ∀ q : Nat, q ≠ a → H1[q]? = H[q]?) : gJ D cl L0 A H0 (gU G a e) n H1 (locs ++ [⟨a, k⟩]) := by
  obtain ⟨q1, q2, q3, q4, q5⟩ := h
  refine ⟨fun b e' hb => ?_, fun b e' hb hl => ?_, q3.put z oq (q2 a e0 he hL), q4, by rw [z]; exact q5⟩
  · by_cases hba : b = a
    · subst hba
      rw [gU_s] at hb
      cases hb
      exact h1
    · rw [gU_n hba] at hb
      exact (q1 b e' hb).kept (oq b hba)
  · by_cases hba : b = a
    · subst hba
      exact q2 b e0 he hl
    · rw [gU_n hba] at hb
      exact q2 b e' hb hl
theorem gJ.new {D : va_G} {cl : List vw_C} {L0 : Nat} {A : Nat → Prop} {H0 : Heap} {G : GH} {n : Nat} {H H1 : Heap} {locs : List Loc} (h : gJ D cl L0 A H0 G n H locs) {e : va_E} (h1 : va_at D cl (n, e) H1) (z : H1.size = n + 1) (oq : ∀ q : Nat, q < n → H1[q]? = H[q]?) : gJ D cl L0 A H0 (gU G n e) (n + 1) H1 locs := by
  have hlt : ∀ a e', G a = some e' → a < n := fun a e' ha => h.lt ha
  obtain ⟨q1, q2, q3, q4, q5⟩ := h
  have hH0 : H0.size ≤ n := by rw [← q5]; exact q3.1
  refine ⟨fun b e' hb => ?_, fun b e' hb hl => ?_, ⟨by rw [z]; exact Nat.le_succ_of_le hH0, fun q hq hA => ?_, q3.2.2⟩, q4, z⟩
  · by_cases hba : b = n
    · subst hba
      rw [gU_s] at hb
      cases hb
      exact h1
    · rw [gU_n hba] at hb
      exact (q1 b e' hb).kept (oq b (hlt b e' hb))
  · by_cases hba : b = n
    · subst hba
      exact q4 b hH0
    · rw [gU_n hba] at hb
      exact q2 b e' hb hl
  · rw [oq q (Nat.lt_of_lt_of_le hq hH0)]
    exact q3.2.1 q hq hA
theorem gP1 {D : va_G} {cl : List vw_C} {a : Nat} {e : va_E} {H : Heap} (h : va_at D cl (a, e) H) : va_P D cl [(a, e)] H := by
  intro k q hk
  match k, hk with
  | 0, hk => cases hk; exact h
  | k + 1, hk => simp at hk
/-! binds of pure functions that may fail, by the number of values -/
def ob1 {α γ : Type} (X : Option α) (f : α → Option γ) : Option γ := match X with | none => none | some a => f a
def ob2 {α β γ : Type} (X : Option (α × β)) (f : α → β → Option γ) : Option γ := match X with | none => none | some a => f a.1 a.2
def ob3 {α β γ δ : Type} (X : Option (α × β × γ)) (f : α → β → γ → Option δ) : Option δ := match X with | none => none | some a => f a.1 a.2.1 a.2.2
def ob4 {α β γ ε δ : Type} (X : Option (α × β × γ × ε)) (f : α → β → γ → ε → Option δ) : Option δ := match X with | none => none | some a => f a.1 a.2.1 a.2.2.1 a.2.2.2
def ob5 {α β γ ε ζ δ : Type} (X : Option (α × β × γ × ε × ζ)) (f : α → β → γ → ε → ζ → Option δ) : Option δ := match X with | none => none | some a => f a.1 a.2.1 a.2.2.1 a.2.2.2.1 a.2.2.2.2
def ob0 {γ : Type} (X : Option Unit) (f : Option γ) : Option γ := match X with | none => none | some _ => f
/-- an early end (inl) or values to go on with (inr) -/
def oe {ρ α γ : Type} (X : Option (ρ ⊕ α)) (r : ρ → Option γ) (f : α → Option γ) : Option γ := match X with | none => none | some (.inl a) => r a | some (.inr a) => f a
theorem ob0_e {γ : Type} {X : Option Unit} {f : Option γ} {o : γ} (h : ob0 X f = some o) : X = some () ∧ f = some o := by
  cases X with
  | none => cases h
  | some a => exact ⟨rfl, h⟩
theorem ob1_e {α γ : Type} {X : Option α} {f : α → Option γ} {o : γ} (h : ob1 X f = some o) : ∃ a, X = some a ∧ f a = some o := by
  cases X with
  | none => cases h
  | some a => exact ⟨a, rfl, h⟩
theorem ob2_e {α β γ : Type} {X : Option (α × β)} {f : α → β → Option γ} {o : γ} (h : ob2 X f = some o) : ∃ a b, X = some (a, b) ∧ f a b = some o := by
  cases X with
  | none => cases h
  | some a => exact ⟨a.1, a.2, rfl, h⟩
theorem ob3_e {α β γ δ : Type} {X : Option (α × β × γ)} {f : α → β → γ → Option δ} {o : δ} (h : ob3 X f = some o) : ∃ a b c, X = some (a, b, c) ∧ f a b c = some o := by
  cases X with
  | none => cases h
  | some a => exact ⟨a.1, a.2.1, a.2.2, rfl, h⟩
theorem ob4_e {α β γ ε δ : Type} {X : Option (α × β × γ × ε)} {f : α → β → γ → ε → Option δ} {o : δ} (h : ob4 X f = some o) : ∃ a b c d, X = some (a, b, c, d) ∧ f a b c d = some o := by
  cases X with
  | none => cases h
  | some a => exact ⟨a.1, a.2.1, a.2.2.1, a.2.2.2, rfl, h⟩
theorem ob5_e {α β γ ε ζ δ : Type} {X : Option (α × β × γ × ε × ζ)} {f : α → β → γ → ε → ζ → Option δ} {o : δ} (h : ob5 X f = some o) : ∃ a b c d e, X = some (a, b, c, d, e) ∧ f a b c d e = some o := by
  cases X with
  | none => cases h
  | some a => exact ⟨a.1, a.2.1, a.2.2.1, a.2.2.2.1, a.2.2.2.2, rfl, h⟩
theorem oe_e {ρ α γ : Type} {X : Option (ρ ⊕ α)} {r : ρ → Option γ} {f : α → Option γ} {o : γ} (h : oe X r f = some o) : (∃ a, X = some (.inl a) ∧ r a = some o) ∨ ∃ a, X = some (.inr a) ∧ f a = some o := by
  match X, h with
  | some (.inl a), h => exact Or.inl ⟨a, rfl, h⟩
  | some (.inr a), h => exact Or.inr ⟨a, rfl, h⟩
/-- a value by a name -/
def nm {α β : Type} (x : α) (f : α → β) : β := f x
/-- an answer that is a boolean on the machine: 0 or 1 -/
def retZ (v : Int32) : Option Int32 := if v = 0 ∨ v = 1 then some v else none
theorem retZ_e {v r : Int32} (h : retZ v = some r) : v = r ∧ narrow .boolean (.int v) = .int v := by
  unfold retZ at h
  split at h
  next hv =>
    refine ⟨Option.some.inj h, ?_⟩
    rcases hv with rfl | rfl <;> decide
  next => cases h
theorem ifP {α : Type} {c : Prop} [Decidable c] {P Q : Option α} {o : α} (h : (if c then P else Q) = some o) (hc : c) : P = some o := by rw [if_pos hc] at h; exact h
theorem ifN {α : Type} {c : Prop} [Decidable c] {P Q : Option α} {o : α} (h : (if c then P else Q) = some o) (hc : ¬ c) : Q = some o := by rw [if_neg hc] at h; exact h
section GL
variable {p : Program} {l : Launch} {e : Env} {R : Room} {s : State} {m : MethodId} {args : Array Value} {below : List Frame} {meth : Method} {c : Code} {H : Heap} {locs : List Loc} {cells slots : Nat} {Q : State → Prop}
variable {cc : ByteArray} {pc : Nat} {ls : Array Slot} {rest : List Value} {D : va_G} {cl : List vw_C} {A : Nat → Prop} {a : Nat} {tys : List (ClassId × FieldType)} {L0 n nL : Nat} {G : GH} {K : gKT} {own : String} {rm : Room}
theorem g_get (hF : gX p m c cc nL s args own D cl tys K A R rm) (hG : gJ D cl L0 A s.heap G n H locs) {ref C : String} {T : u_T} {N ci index : Nat} {fs : List Value} (he : G a = some (.inr (ci, fs))) (hc : cl[ci]? = some (C, T, N)) (hin : ∀ w ∈ u_ws C T N, w ∈ lw_all) (k : Nat) (hk : k < N) (hlink : (Cond.fieldLink own index ref (T k).2.1 (T k).2.2.1) ∈ lw_all) (hsame : ∀ x, s.fieldFound? (T k).1 (T k).2.1 (T k).2.2.1 = some x → s.fieldFound? ref (T k).2.1 (T k).2.2.1 = some x) {v : Value} (hv : fs[k]? = some v) (hdg : decode cc pc = .ok (.getfield index, 3))
    (kk : W p l e R s m args below meth c H locs cells slots Q (F0 m (pc + 3) ls (v :: rest))) : W p l e R s m args below meth c H locs cells slots Q (F0 m pc ls (.ref a :: rest)) := by
  obtain ⟨⟨hx, hb, -, hown, hts⟩, hK, -⟩ := hF
  exact va_get hx hb hts hin hown hK (gP1 (hG.1 a _ he)) 0 rfl hc k hk (hts _ hlink) hsame hv hdg kk
theorem g_put (hF : gX p m c cc nL s args own D cl tys K A R rm) (hG : gJ D cl L0 A s.heap G n H locs) {ref C : String} {T : u_T} {N ci index : Nat} {fs : List Value} (he : G a = some (.inr (ci, fs))) (hL : L0 ≤ a) (hc : cl[ci]? = some (C, T, N)) (hin : ∀ w ∈ u_ws C T N, w ∈ lw_all) (ty0 : Nat → FieldType) (hty : ∀ k, k < N → parseFieldDescriptor (T k).2.2.1 = some (ty0 k)) (hnm : ∀ a, a < N → ∀ b, b < N → a ≠ b → (T a).2.1 ≠ (T b).2.1) (k : Nat) (hk : k < N) (hlink : (Cond.fieldLink own index ref (T k).2.1 (T k).2.2.1) ∈ lw_all) (hsame : ∀ x, s.fieldFound? (T k).1 (T k).2.1 (T k).2.2.1 = some x → s.fieldFound? ref (T k).2.1 (T k).2.2.1 = some x) (hfin : (T k).2.2.2 = false) {v : Value} (hn : narrow (ty0 k) v = v) (hfit : fits (ty0 k) v = true) (hl : k < fs.length) (hdg : decode cc pc = .ok (.putfield index, 3))
    (kk : ∀ (H1 : Heap) (locs1 : List Loc), gJ D cl L0 A s.heap (gU G a (.inr (ci, fs.set k v))) n H1 locs1 → W p l e R s m args below meth c H1 locs1 cells slots Q (F0 m (pc + 3) ls rest)) : W p l e R s m args below meth c H locs cells slots Q (F0 m pc ls (v :: .ref a :: rest)) := by
  obtain ⟨⟨hx, hb, -, hown, hts⟩, hK, -⟩ := hF
  have hap := va_apart (own := own) hts hin ty0 hty hnm hK hc
  have hat := hG.1 a _ he
  obtain ⟨r, h1, cell, q1, q2, q3, q4⟩ := hat
  have hr : r = (C, T, N) := Option.some.inj (h1.symm.trans hc)
  subst hr
  obtain ⟨hS, hfc, kC, hkC, hkind⟩ := hK.1 ci _ hc
  obtain ⟨cf, kf, fi, f, hi, hsl⟩ := hS k hk
  have hlay := hts _ (hin _ (u_in_lay hk))
  unfold u_lay at hlay
  rw [if_neg (by rw [hfin]; decide)] at hlay
  have hst := (u_facts hfc hkC (u_lays hts hin hk) hi).1
  have h6 := u_store hfc hkC hkind hlay hi (hty k hk) hn hfit
  refine W.putK hx hb (f := f) ⟨hown, hts _ hlink, ⟨_, _, _, hsame _ hi⟩, hst⟩ (by rw [q2]; exact h6) q1 q3 (by rw [hsl]; exact k2_hasslot (q4 k hk)) rfl rfl hdg fun H' e1 e2 e3 => ?_
  rw [hsl] at e1 ⊢
  exact kk H' _ (hG.put he hL ⟨_, hc, t_OB.to (V := updV (vp_V fs) k v) ⟨_, e1, q2, q3, t_set q4 hap hk v⟩ (fun j _ => vp_updV_set hl v j)⟩ e2 e3)
theorem g_putF (hF : gX p m c cc nL s args own D cl tys K A R rm) (hG : gJ D cl L0 A s.heap G n H locs) {ref C : String} {T : u_T} {N ci index : Nat} {fs : List Value} (he : G a = some (.inr (ci, fs))) (hL : L0 ≤ a) (hc : cl[ci]? = some (C, T, N)) (hin : ∀ w ∈ u_ws C T N, w ∈ lw_all) (ty0 : Nat → FieldType) (hty : ∀ k, k < N → parseFieldDescriptor (T k).2.2.1 = some (ty0 k)) (hnm : ∀ a, a < N → ∀ b, b < N → a ≠ b → (T a).2.1 ≠ (T b).2.1) (k : Nat) (hk : k < N) (hlink : (Cond.fieldLink own index ref (T k).2.1 (T k).2.2.1) ∈ lw_all) (hsame : ∀ x, s.fieldFound? (T k).1 (T k).2.1 (T k).2.2.1 = some x → s.fieldFound? ref (T k).2.1 (T k).2.2.1 = some x) (hfin : (T k).2.2.2 = true) (hin2 : meth.name = "<init>") (hdecl : (T k).1 = own) {v : Value} (hn : narrow (ty0 k) v = v) (hfit : fits (ty0 k) v = true) (hl : k < fs.length) (hdg : decode cc pc = .ok (.putfield index, 3))
    (kk : ∀ (H1 : Heap) (locs1 : List Loc), gJ D cl L0 A s.heap (gU G a (.inr (ci, fs.set k v))) n H1 locs1 → W p l e R s m args below meth c H1 locs1 cells slots Q (F0 m (pc + 3) ls rest)) : W p l e R s m args below meth c H locs cells slots Q (F0 m pc ls (v :: .ref a :: rest)) := by
  obtain ⟨⟨hx, hb, -, hown, hts⟩, hK, -⟩ := hF
  have hap := va_apart (own := own) hts hin ty0 hty hnm hK hc
  have hat := hG.1 a _ he
  obtain ⟨r, h1, cell, q1, q2, q3, q4⟩ := hat
  have hr : r = (C, T, N) := Option.some.inj (h1.symm.trans hc)
  subst hr
  obtain ⟨hS, hfc, kC, hkC, hkind⟩ := hK.1 ci _ hc
  obtain ⟨cf, kf, fi, f, hi, hsl⟩ := hS k hk
  have hlay := hts _ (hin _ (u_in_lay hk))
  unfold u_lay at hlay
  rw [if_pos hfin] at hlay
  have hst := (u_facts hfc hkC (u_lays hts hin hk) hi).1
  have hcf : m.cls = cf := by
    obtain ⟨_, _, c', _, _, _, -, -, hf', -, -, -, hown2, -⟩ := Cond.laysFinal_spec hlay
    have e1 : c' = cf := by have := hi.symm.trans hf'; simp at this; exact this.1.symm
    rw [hdecl] at hown2
    rw [← e1]; exact Option.some.inj (hown.symm.trans hown2)
  have h6 := u_fits hfc hkC hkind (Or.inr hlay) hi (hty k hk) hn hfit
  refine W.putFinK hx hb hown (hts _ hlink) (hsame _ hi) hst hcf hin2 (by rw [q2]; exact h6) q1 q3 (by rw [hsl]; exact k2_hasslot (q4 k hk)) rfl rfl hdg fun H' e1 e2 e3 => ?_
  rw [hsl] at e1 ⊢
  exact kk H' _ (hG.put he hL ⟨_, hc, t_OB.to (V := updV (vp_V fs) k v) ⟨_, e1, q2, q3, t_set q4 hap hk v⟩ (fun j _ => vp_updV_set hl v j)⟩ e2 e3)
theorem g_iald (hF : gX p m c cc nL s args own D cl tys K A R rm) (hG : gJ D cl L0 A s.heap G n H locs) {cA : ClassId} {N : Nat} {f : Nat → Int32} (he : G a = some (.inl (cA, N, .inl f))) (t0 : Nat) (ht : tys[t0]? = some (cA, .int)) {i : Int32} (hin : vp_in i N) (hdg : decode cc pc = .ok (.iaload, 1))
    (kk : W p l e R s m args below meth c H locs cells slots Q (F0 m (pc + 1) ls (.int (f i.toNatClampNeg) :: rest))) : W p l e R s m args below meth c H locs cells slots Q (F0 m pc ls (.int i :: .ref a :: rest)) :=
  va_iald hF.1.1 hF.1.2.1 hF.2.1 (gP1 (hG.1 a _ he)) 0 t0 rfl ht hin hdg kk
theorem g_bald (hF : gX p m c cc nL s args own D cl tys K A R rm) (hG : gJ D cl L0 A s.heap G n H locs) {cA : ClassId} {N : Nat} {f : Nat → Int32} (he : G a = some (.inl (cA, N, .inl f))) (t0 : Nat) (ht : tys[t0]? = some (cA, .byte)) {i : Int32} (hin : vp_in i N) (hdg : decode cc pc = .ok (.baload, 1))
    (kk : W p l e R s m args below meth c H locs cells slots Q (F0 m (pc + 1) ls (.int (f i.toNatClampNeg) :: rest))) : W p l e R s m args below meth c H locs cells slots Q (F0 m pc ls (.int i :: .ref a :: rest)) :=
  va_bald hF.1.1 hF.1.2.1 hF.2.1 (gP1 (hG.1 a _ he)) 0 t0 rfl ht hin hdg kk
theorem g_zald (hF : gX p m c cc nL s args own D cl tys K A R rm) (hG : gJ D cl L0 A s.heap G n H locs) {cA : ClassId} {N : Nat} {f : Nat → Int32} (he : G a = some (.inl (cA, N, .inl f))) (t0 : Nat) (ht : tys[t0]? = some (cA, .boolean)) {i : Int32} (hin : vp_in i N) (hdg : decode cc pc = .ok (.baload, 1))
    (kk : W p l e R s m args below meth c H locs cells slots Q (F0 m (pc + 1) ls (.int (f i.toNatClampNeg) :: rest))) : W p l e R s m args below meth c H locs cells slots Q (F0 m pc ls (.int i :: .ref a :: rest)) :=
  va_zald hF.1.1 hF.1.2.1 hF.2.1 (gP1 (hG.1 a _ he)) 0 t0 rfl ht hin hdg kk
theorem g_lald (hF : gX p m c cc nL s args own D cl tys K A R rm) (hG : gJ D cl L0 A s.heap G n H locs) {cA : ClassId} {N : Nat} {f : Nat → Int64} (he : G a = some (.inl (cA, N, .inr (.inl f)))) (t0 : Nat) (ht : tys[t0]? = some (cA, .long)) {i : Int32} (hin : vp_in i N) (hdg : decode cc pc = .ok (.laload, 1))
    (kk : W p l e R s m args below meth c H locs cells slots Q (F0 m (pc + 1) ls (.long (f i.toNatClampNeg) :: rest))) : W p l e R s m args below meth c H locs cells slots Q (F0 m pc ls (.int i :: .ref a :: rest)) :=
  va_lald hF.1.1 hF.1.2.1 hF.2.1 (gP1 (hG.1 a _ he)) 0 t0 rfl ht hin hdg kk
theorem g_alen (hF : gX p m c cc nL s args own D cl tys K A R rm) (hG : gJ D cl L0 A s.heap G n H locs) {cA : ClassId} {x : vp_A} (he : G a = some (.inl (cA, x))) (t0 : Nat) {ty : FieldType} (ht : tys[t0]? = some (cA, ty)) {v : Int32} (hv : Int32.ofNat x.1 = v) (hdg : decode cc pc = .ok (.arraylength, 1))
    (kk : W p l e R s m args below meth c H locs cells slots Q (F0 m (pc + 1) ls (.int v :: rest))) : W p l e R s m args below meth c H locs cells slots Q (F0 m pc ls (.ref a :: rest)) :=
  va_alen hF.1.1 hF.1.2.1 hF.2.1 (gP1 (hG.1 a _ he)) 0 t0 rfl ht hv hdg kk
theorem g_iast (hF : gX p m c cc nL s args own D cl tys K A R rm) (hG : gJ D cl L0 A s.heap G n H locs) {cA : ClassId} {N : Nat} {f : Nat → Int32} (he : G a = some (.inl (cA, N, .inl f))) (hL : L0 ≤ a) (t0 : Nat) (ht : tys[t0]? = some (cA, .int)) {i x : Int32} (hin : vp_in i N) (hdg : decode cc pc = .ok (.iastore, 1))
    (kk : ∀ (H1 : Heap) (locs1 : List Loc), gJ D cl L0 A s.heap (gU G a (.inl (cA, N, .inl (upd f i.toNatClampNeg x)))) n H1 locs1 → W p l e R s m args below meth c H1 locs1 cells slots Q (F0 m (pc + 1) ls rest)) : W p l e R s m args below meth c H locs cells slots Q (F0 m pc ls (.int x :: .int i :: .ref a :: rest)) := by
  obtain ⟨⟨hx, hb, -, hown, hts⟩, hK, -⟩ := hF
  refine W.iast hx hb (hG.1 a _ he) ((hK.2 t0 _ ht).1 N (fun j => .int (f j))) (fun q => by cases q) (by show ¬ (i < 0 ∨ (arrV _ _ _).slots.size ≤ _); rw [arrV_size]; exact hin) rfl rfl hdg fun H1 e z oq => ?_
  refine kk H1 _ (hG.put he hL ?_ z oq)
  show H1[a]? = some (vp_cell _ _)
  rw [e]
  rw [vp_cell_i, vp_cell_i, arrV_store]
  congr 2
  funext q
  by_cases hq : q = i.toNatClampNeg
  · subst hq
    simp [updV, upd]
  · simp [updV, upd, hq]
theorem g_bast (hF : gX p m c cc nL s args own D cl tys K A R rm) (hG : gJ D cl L0 A s.heap G n H locs) {cA : ClassId} {N : Nat} {f : Nat → Int32} (he : G a = some (.inl (cA, N, .inl f))) (hL : L0 ≤ a) (t0 : Nat) (ht : tys[t0]? = some (cA, .byte)) {i x : Int32} (hin : vp_in i N) (hdg : decode cc pc = .ok (.bastore, 1))
    (kk : ∀ (H1 : Heap) (locs1 : List Loc), gJ D cl L0 A s.heap (gU G a (.inl (cA, N, .inl (upd f i.toNatClampNeg (vp_nar .byte x))))) n H1 locs1 → W p l e R s m args below meth c H1 locs1 cells slots Q (F0 m (pc + 1) ls rest)) : W p l e R s m args below meth c H locs cells slots Q (F0 m pc ls (.int x :: .int i :: .ref a :: rest)) := by
  obtain ⟨⟨hx, hb, -, hown, hts⟩, hK, -⟩ := hF
  refine W.bast hx hb (hG.1 a _ he) ((hK.2 t0 _ ht).1 N (fun j => .int (f j))) (fun q => by cases q) (by show ¬ (i < 0 ∨ (arrV _ _ _).slots.size ≤ _); rw [arrV_size]; exact hin) rfl rfl hdg fun H1 e z oq => ?_
  refine kk H1 _ (hG.put he hL ?_ z oq)
  show H1[a]? = some (vp_cell _ _)
  rw [e]
  rw [vp_cell_i, vp_cell_i, arrV_store]
  congr 2
  funext q
  by_cases hq : q = i.toNatClampNeg
  · subst hq
    simp [updV, upd, vp_nar]
    try rfl
  · simp [updV, upd, hq]
theorem g_zast (hF : gX p m c cc nL s args own D cl tys K A R rm) (hG : gJ D cl L0 A s.heap G n H locs) {cA : ClassId} {N : Nat} {f : Nat → Int32} (he : G a = some (.inl (cA, N, .inl f))) (hL : L0 ≤ a) (t0 : Nat) (ht : tys[t0]? = some (cA, .boolean)) {i x : Int32} (hin : vp_in i N) (hdg : decode cc pc = .ok (.bastore, 1))
    (kk : ∀ (H1 : Heap) (locs1 : List Loc), gJ D cl L0 A s.heap (gU G a (.inl (cA, N, .inl (upd f i.toNatClampNeg (vp_nar .boolean x))))) n H1 locs1 → W p l e R s m args below meth c H1 locs1 cells slots Q (F0 m (pc + 1) ls rest)) : W p l e R s m args below meth c H locs cells slots Q (F0 m pc ls (.int x :: .int i :: .ref a :: rest)) := by
  obtain ⟨⟨hx, hb, -, hown, hts⟩, hK, -⟩ := hF
  refine W.zast hx hb (hG.1 a _ he) ((hK.2 t0 _ ht).1 N (fun j => .int (f j))) (fun q => by cases q) (by show ¬ (i < 0 ∨ (arrV _ _ _).slots.size ≤ _); rw [arrV_size]; exact hin) rfl rfl hdg fun H1 e z oq => ?_
  refine kk H1 _ (hG.put he hL ?_ z oq)
  show H1[a]? = some (vp_cell _ _)
  rw [e]
  rw [vp_cell_i, vp_cell_i, arrV_store]
  congr 2
  funext q
  by_cases hq : q = i.toNatClampNeg
  · subst hq
    simp [updV, upd, vp_nar]
    try rfl
  · simp [updV, upd, hq]
theorem g_last (hF : gX p m c cc nL s args own D cl tys K A R rm) (hG : gJ D cl L0 A s.heap G n H locs) {cA : ClassId} {N : Nat} {f : Nat → Int64} (he : G a = some (.inl (cA, N, .inr (.inl f)))) (hL : L0 ≤ a) (t0 : Nat) (ht : tys[t0]? = some (cA, .long)) {i : Int32} {x : Int64} (hin : vp_in i N) (hdg : decode cc pc = .ok (.lastore, 1))
    (kk : ∀ (H1 : Heap) (locs1 : List Loc), gJ D cl L0 A s.heap (gU G a (.inl (cA, N, .inr (.inl (vp_updL f i.toNatClampNeg x))))) n H1 locs1 → W p l e R s m args below meth c H1 locs1 cells slots Q (F0 m (pc + 1) ls rest)) : W p l e R s m args below meth c H locs cells slots Q (F0 m pc ls (.long x :: .int i :: .ref a :: rest)) := by
  obtain ⟨⟨hx, hb, -, hown, hts⟩, hK, -⟩ := hF
  refine W.last hx hb (hG.1 a _ he) ((hK.2 t0 _ ht).1 N (fun j => .long (f j))) (fun q => by cases q) (by show ¬ (i < 0 ∨ (arrV _ _ _).slots.size ≤ _); rw [arrV_size]; exact hin) rfl rfl hdg fun H1 e z oq => ?_
  refine kk H1 _ (hG.put he hL ?_ z oq)
  show H1[a]? = some (vp_cell _ _)
  rw [e]
  rw [vp_cell_l, vp_cell_l, arrV_store]
  congr 2
  funext q
  by_cases hq : q = i.toNatClampNeg
  · subst hq
    simp [updV, vp_updL]
  · simp [updV, vp_updL, hq]
theorem g_newa (hF : gX p m c cc nL s args own D cl tys K A R rm) (hG : gJ D cl L0 A s.heap G n H locs) {atype : ArrayType} {ty : FieldType} (hty : newarray.typeOf atype = ty) (harr : (Cond.arrayClass ty) ∈ lw_all) {cA : ClassId} (t0 : Nat) (ht : tys[t0]? = some (cA, ty)) (hpr : ∀ C, ty ≠ .object C) {i : Int32} {N : Nat} {a0 : vp_A} (ha : ∀ cA : ClassId, vp_cell cA a0 = arrV cA N (fun _ => defaultValue ty)) (hn : ¬ i < 0) (hN : i.toNatClampNeg = N) (hbytes : N * componentBytes ty ≤ 536870912) (hcells : cells + 1 ≤ R.cells) (hslots : slots + N ≤ R.slots) (hdg : decode cc pc = .ok (.newarray atype, 2))
    (kk : ∀ (H1 : Heap), gJ D cl L0 A s.heap (gU G n (.inl (cA, a0))) (n + 1) H1 locs → W p l e R s m args below meth c H1 locs (cells + 1) (slots + N) Q (F0 m (pc + 2) ls (.ref n :: rest))) : W p l e R s m args below meth c H locs cells slots Q (F0 m pc ls (.int i :: rest)) := by
  obtain ⟨⟨hx, hb, -, hown, hts⟩, hK, -⟩ := hF
  subst hty
  refine va_newaK hx hb (hts _ harr) rfl hdg rfl hn hN hbytes hcells hslots hG.2.2.2.2 fun H1 cB e1 z1 o1 hAr hNm => ?_
  have hra := (hK.2 t0 _ ht).2
  have hcc : cB = cA := by
    have h5 : s.vm.findClass ("[" ++ (newarray.typeOf atype).toString) = some cA := by
      unfold va_RA at hra
      split at hra
      next C hC => exact absurd hC (hpr C)
      next => exact hra
    exact Option.some.inj (hNm.symm.trans h5)
  subst hcc
  refine kk H1 (hG.new ?_ z1 o1)
  show H1[n]? = some (vp_cell _ _)
  rw [ha]
  exact e1
theorem g_new {c0 : Code} (hF : gX p m c0 cc nL s args own D cl tys K A R rm) (hG : gJ D cl L0 A s.heap G n H locs) {C : String} {T : u_T} {N ci index : Nat} (hin : ∀ w ∈ u_ws C T N, w ∈ lw_all) (ty : Nat → FieldType) (hty : ∀ k, k < N → parseFieldDescriptor (T k).2.2.1 = some (ty k)) (hcl : (Cond.classLink own index C) ∈ lw_all) (hinst : (Cond.instantiable C N) ∈ lw_all) (hini : (Cond.initialized C) ∈ lw_all) (hc : cl[ci]? = some (C, T, N)) {fs : List Value} (hfs : ∀ j, j < N → defaultValue (ty j) = vp_V fs j) (hcells : cells + 1 ≤ R.cells) (hslots : slots + N ≤ R.slots) (hdg : decode cc pc = .ok (.new index, 3))
    (kk : ∀ (H1 : Heap), gJ D cl L0 A s.heap (gU G n (.inr (ci, fs))) (n + 1) H1 locs → W p l e R s m args below meth c0 H1 locs (cells + 1) (slots + N) Q (F0 m (pc + 3) ls (.ref n :: rest))) : W p l e R s m args below meth c0 H locs cells slots Q (F0 m pc ls rest) := by
  obtain ⟨⟨hx, hb, -, hown, hts⟩, hK, -⟩ := hF
  have hKn := hK.1 ci _ hc
  refine W.newcK hx hb hown (hts _ hcl) (hts _ hinst) (hts _ hini) rfl hdg hcells hslots hKn.2.1 hG.2.2.2.2 fun H1 kC hkC e1 z1 o1 => ?_
  exact kk H1 (hG.new ⟨_, hc, (u_born ty hts hin hKn hkC e1 hty).to hfs⟩ z1 o1)
theorem g_pre (hF : gX p m c cc nL s args own D cl tys K A R rm) (hG : gJ D cl L0 A s.heap G n H locs) (av : List Value) : ∀ U : State, U.heap = H → s.WarmedH U.vm → gPc D cl L0 K av G n av.toArray U := by
  intro U hU hW
  obtain ⟨-, -, ⟨hmv, -⟩, hK, -⟩ := hF
  obtain ⟨q1, q2, q3, q4, q5⟩ := hG
  refine ⟨rfl, by rw [hU]; exact q5, ?_, by rw [hU]; exact q1⟩
  have h1 : K A s H := hmv.2.2.1 A s s.heap H (fun a h1 h2 => q3.2.1 a h1 h2) hK
  have h2 : K (gA L0 G n) s H := hmv.2.2.2 A _ s H (fun q hq => by
    rcases hq with ⟨h5, e5, h6⟩ | h5
    · exact q2 q e5 h6 h5
    · exact q4 q (Nat.le_trans q3.1 (by rw [q5]; exact h5))) h1
  rw [hU]
  exact hmv.1 _ s U H hW h2
theorem g_call {mc ms : Nat} {st0 : List Value} {aa : Array Value} {RR : Option Value → GH → Nat → Prop} (hr : va_Run p l e R s m args below meth c H locs cells slots mc ms (F0 m pc ls st0) rest (gQc D cl L0 G n RR aa) (gA L0 G n)) (hG : gJ D cl L0 A s.heap G n H locs)
    (kk : ∀ (v : Option Value) (G' : GH) (n' : Nat) (H' : Heap) (locs' : List Loc), RR v G' n' → gJ D cl L0 A s.heap G' n' H' locs' → W p l e R s m args below meth c H' locs' (cells + mc) (slots + ms) Q (F0 m (pc + 3) ls (v.toList ++ rest))) : W p l e R s m args below meth c H locs cells slots Q (F0 m pc ls st0) := by
  intro T hT X
  obtain ⟨v, st₀, t, T', L, h0, X', hL, e1, e2, ⟨⟨v', G', hv, hRR, hat⟩, hz, hk⟩, st⟩ := hr T hT X
  cases hv
  rw [h0] at hz hk
  obtain ⟨q1, q2, q3, q4, q5⟩ := hG
  have hsub : ∀ q, gA L0 G n q → A q := fun q hq => by
    rcases hq with ⟨h5, e5, h6⟩ | h5
    · exact q2 q e5 h6 h5
    · exact q4 q (Nat.le_trans q3.1 (by rw [q5]; exact h5))
  have hJ : gJ D cl L0 A s.heap G' t.heap.size T'.heap (locs ++ L) := by
    rw [e1]
    refine ⟨fun b e' hb => (hat b e' hb).1, fun b e' hb hl => hsub b ((hat b e' hb).2 hl), ⟨Nat.le_trans q3.1 hz, fun q h1 h2 => ?_, fun q hq => ?_⟩, q4, rfl⟩
    · rw [hk q (Nat.lt_of_lt_of_le h1 q3.1) (fun z => h2 (hsub q z))]
      exact q3.2.1 q h1 h2
    · rcases List.mem_append.mp hq with h | h
      · exact q3.2.2 q h
      · exact hsub _ (hL q h)
  obtain ⟨t2, a1, b1⟩ := kk v G' _ T'.heap (locs ++ L) hRR hJ T' rfl X'
  exact ⟨t2, st t2 a1, b1⟩
theorem g_recv (hF : gX p m c cc nL s args own D cl tys K A R rm) (hG : gJ D cl L0 A s.heap G n H locs) {ci : Nat} {q : vw_C} {fs : List Value} (he : G a = some (.inr (ci, fs))) (hc : cl[ci]? = some q) : ∃ cell : Cell, H[a]? = some cell ∧ cell.vm.isStatics = false ∧ s.vm.findClass q.1 = some cell.cls :=
  va_recv hF.2.1 (gP1 (hG.1 a _ he)) hc (q0 := 0) rfl
variable {y : MethodName} {bytes : ByteArray} {maxL mc ms k index fr lo : Nat} {ret : Option FieldType} {ws : List Cond} {As st0 : List Value} {RR : Option Value → GH → Nat → Prop} {lv : List (Nat × Value)}
theorem g_callV (hF : gX p m c cc nL s args own D cl tys K A R rm) (hG : gJ D cl L0 A s.heap G n H locs) (hl : lv_has ls nL lv) {C : String} {T : u_T} {N ci : Nat} {fs : List Value} (he : G a = some (.inr (ci, fs))) (hc : cl[ci]? = some (C, T, N)) (hM : gMet l y ws D cl L0 K (.ref a :: As) G n fr lo mc ms RR) (cw : CallW R s args own C index y bytes maxL ret ws ({ frames := fr, cells := mc, slots := ms, locals := lo } : Room) mc ms k) (hn : As.length = k) (hstack : st0 = As.reverse ++ .ref a :: rest) (hW : (rest.map fun v => v.category).sum ≤ 8) (hdg : decode cc pc = .ok (.invokevirtual index, 3)) (hf : cells + mc ≤ R.cells ∧ slots + ms ≤ R.slots)
    (kk : ∀ (v : Option Value) (G' : GH) (n' : Nat) (H' : Heap) (locs' : List Loc), RR v G' n' → gJ D cl L0 A s.heap G' n' H' locs' → W p l e R s m args below meth c H' locs' (cells + mc) (slots + ms) Q (F0 m (pc + 3) ls (v.toList ++ rest))) : W p l e R s m args below meth c H locs cells slots Q (F0 m pc ls st0) :=
  g_call (va_runV hF.1 hM cw ⟨gPc_blind hF.2.2.1, g_recv hF hG he hc, g_pre hF hG _⟩ rfl hn hl.1 hstack (lv_room hW) hdg hf) hG kk
theorem g_callS (hF : gX p m c cc nL s args own D cl tys K A R rm) (hG : gJ D cl L0 A s.heap G n H locs) (hl : lv_has ls nL lv) (hM : gMet l y ws D cl L0 K As G n fr lo mc ms RR) (cw : CallB R s args own index y bytes maxL ret ws ({ frames := fr, cells := mc, slots := ms, locals := lo } : Room) mc ms k ∧ (Cond.static y).before args s = true) (hn : As.length = k) (hstack : st0 = As.reverse ++ rest) (hW : (rest.map fun v => v.category).sum ≤ 8) (hdg : decode cc pc = .ok (.invokestatic index, 3)) (hf : cells + mc ≤ R.cells ∧ slots + ms ≤ R.slots)
    (kk : ∀ (v : Option Value) (G' : GH) (n' : Nat) (H' : Heap) (locs' : List Loc), RR v G' n' → gJ D cl L0 A s.heap G' n' H' locs' → W p l e R s m args below meth c H' locs' (cells + mc) (slots + ms) Q (F0 m (pc + 3) ls (v.toList ++ rest))) : W p l e R s m args below meth c H locs cells slots Q (F0 m pc ls st0) :=
  g_call (va_runS hF.1 hM cw ⟨gPc_blind hF.2.2.1, g_pre hF hG _⟩ rfl hn hl.1 hstack (lv_room hW) hdg hf) hG kk
theorem g_callI (hF : gX p m c cc nL s args own D cl tys K A R rm) (hG : gJ D cl L0 A s.heap G n H locs) (hl : lv_has ls nL lv) (hM : gMet l y ws D cl L0 K (.ref a :: As) G n fr lo mc ms RR) (cw : CallB R s args own index y bytes maxL none ws ({ frames := fr, cells := mc, slots := ms, locals := lo } : Room) mc ms k ∧ y.name = "<init>" ∧ (Cond.instanceMethod y).before args s = true) (hn : As.length = k) (hstack : st0 = As.reverse ++ .ref a :: rest) (hW : (rest.map fun v => v.category).sum ≤ 8) (hdg : decode cc pc = .ok (.invokespecial index, 3)) (hf : cells + mc ≤ R.cells ∧ slots + ms ≤ R.slots)
    (kk : ∀ (v : Option Value) (G' : GH) (n' : Nat) (H' : Heap) (locs' : List Loc), RR v G' n' → gJ D cl L0 A s.heap G' n' H' locs' → W p l e R s m args below meth c H' locs' (cells + mc) (slots + ms) Q (F0 m (pc + 3) ls (v.toList ++ rest))) : W p l e R s m args below meth c H locs cells slots Q (F0 m pc ls st0) :=
  g_call (va_runI hF.1 hM cw ⟨gPc_blind hF.2.2.1, g_pre hF hG _⟩ rfl hn hl.1 hstack (lv_room hW) hdg hf) hG kk
theorem g_room {rm : Room} {fr lo maxL : Nat} (hF : gX p m c cc nL s args own D cl tys K A R rm) (h1 : fr + 1 ≤ rm.frames) (h2 : 8 + (maxL + 11) + lo ≤ rm.locals) : fr + 1 ≤ R.frames ∧ 8 + (maxL + 11) + lo ≤ R.locals := by
  rw [hF.2.2.2.2]
  exact ⟨h1, h2⟩
/-- a method's ends: what it says of the answer and of the tracked cells, by gJ -/
def gEnd (D : va_G) (cl : List vw_C) (L0 : Nat) (A : Nat → Prop) (H0 : Heap) (RR : Option Value → GH → Nat → Prop) (v : Option Value) (H : Heap) (locs : List Loc) : Prop := ∃ G n, RR v G n ∧ gJ D cl L0 A H0 G n H locs
theorem gEnd_Q {G : GH} {v : Option Value} {t : State} {G0 : GH} (h : gEnd D cl L0 (gA L0 G0 s.heap.size) s.heap RR v H locs) (ht : t.heap = H) {aa : Array Value} : gQc D cl L0 G0 s.heap.size RR aa s (.returned v) t := by
  obtain ⟨G1, n1, h1, q1, q2, q3, q4, q5⟩ := h
  refine ⟨⟨v, G1, rfl, by rw [ht, q5]; exact h1, fun b e' hb => ⟨by rw [ht]; exact q1 b e' hb, fun hl => q2 b e' hb hl⟩⟩, va_S.F q3 ht⟩
/-- what the entry of a method gives: QQ is the goal of its walk -/
def gQ (p : Program) (l : Launch) (e : Env) (R : Room) (s : State) (m : MethodId) (args : Array Value) (below : List Frame) (meth : Method) (c : Code) (cc : ByteArray) (D : va_G) (cl : List vw_C) (L0 : Nat) (A : Nat → Prop) (RR : Option Value → GH → Nat → Prop) (mc ms : Nat) (ret : Option FieldType) (Q : State → Prop) : Prop :=
  p.tables.exec = Jvm.exec ∧ c.code = cc ∧ meth.sig.returnType = ret ∧ meth.locks = false ∧ ∃ G0 : GH, A = gA L0 G0 s.heap.size ∧ Q = MQ below (gQc D cl L0 G0 s.heap.size RR) args s mc ms A
theorem g_iret (hQ : gQ p l e R s m args below meth c cc D cl L0 A RR mc ms (some .int) Q) (hG : gJ D cl L0 A s.heap G n H locs) {v : Int32} (hR : RR (some (.int v)) G n) (hc : cells ≤ mc) (hs : slots ≤ ms) (hdg : decode cc pc = .ok (.ireturn, 1)) : W p l e R s m args below meth c H locs cells slots Q (F0 m pc ls [.int v]) := by
  obtain ⟨hx, hb, hr, hlk, G0, hA, hQe⟩ := hQ
  subst hQe
  subst hA
  refine W.widen hc hs ?_
  exact W.iret hx hb hr (fun t ht hW => gEnd_Q (G := G) (RR := RR) ⟨G, n, hR, hG⟩ ht) hG.2.2.1.2.2 hdg hlk
theorem g_zret (hQ : gQ p l e R s m args below meth c cc D cl L0 A RR mc ms (some .boolean) Q) (hG : gJ D cl L0 A s.heap G n H locs) {v : Int32} (hz : narrow .boolean (.int v) = .int v) (hR : RR (some (.int v)) G n) (hc : cells ≤ mc) (hs : slots ≤ ms) (hdg : decode cc pc = .ok (.ireturn, 1)) : W p l e R s m args below meth c H locs cells slots Q (F0 m pc ls [.int v]) := by
  obtain ⟨hx, hb, hr, hlk, G0, hA, hQe⟩ := hQ
  subst hQe
  subst hA
  refine W.widen hc hs ?_
  exact W.zret hx hb hr hz (fun t ht hW => gEnd_Q (G := G) (RR := RR) ⟨G, n, hR, hG⟩ ht) hG.2.2.1.2.2 hdg
theorem g_vret (hQ : gQ p l e R s m args below meth c cc D cl L0 A RR mc ms none Q) (hG : gJ D cl L0 A s.heap G n H locs) (hR : RR none G n) (hc : cells ≤ mc) (hs : slots ≤ ms) (hdg : decode cc pc = .ok (.return_, 1)) : W p l e R s m args below meth c H locs cells slots Q (F0 m pc ls []) := by
  obtain ⟨hx, hb, hr, hlk, G0, hA, hQe⟩ := hQ
  subst hQe
  subst hA
  refine W.widen hc hs ?_
  exact W.vret hx hb hr (fun t ht hW => gEnd_Q (G := G) (RR := RR) ⟨G, n, hR, hG⟩ ht) hG.2.2.1.2.2 hdg
theorem g_dret (hQ : gQ p l e R s m args below meth c cc D cl L0 A RR mc ms (some .double) Q) (hG : gJ D cl L0 A s.heap G n H locs) {v : UInt64} (hR : RR (some (.double v)) G n) (hc : cells ≤ mc) (hs : slots ≤ ms) (hdg : decode cc pc = .ok (.dreturn, 1)) : W p l e R s m args below meth c H locs cells slots Q (F0 m pc ls [.double v]) := by
  obtain ⟨hx, hb, hr, hlk, G0, hA, hQe⟩ := hQ
  subst hQe
  subst hA
  refine W.widen hc hs ?_
  exact W.dret hx hb hr (fun t ht hW => gEnd_Q (G := G) (RR := RR) ⟨G, n, hR, hG⟩ ht) hG.2.2.1.2.2 hdg
theorem g_aret {rt : FieldType} (hQ : gQ p l e R s m args below meth c cc D cl L0 A RR mc ms (some rt) Q) (hrt : (∃ n, rt = .object n) ∨ ∃ t, rt = .array t) (hG : gJ D cl L0 A s.heap G n H locs) {v : Value} (hv : v = .null ∨ ∃ a, v = .ref a) (hR : RR (some v) G n) (hc : cells ≤ mc) (hs : slots ≤ ms) (hdg : decode cc pc = .ok (.areturn, 1)) : W p l e R s m args below meth c H locs cells slots Q (F0 m pc ls [v]) := by
  obtain ⟨hx, hb, hr, hlk, G0, hA, hQe⟩ := hQ
  subst hQe
  subst hA
  refine W.widen hc hs ?_
  exact W.aret hx hb hr hrt hv (fun t ht hW => gEnd_Q (G := G) (RR := RR) ⟨G, n, hR, hG⟩ ht) hG.2.2.1.2.2 hdg
end GL
/-- a contract out of a walk of the method's code -/
theorem gMet.of {l : Launch} {y : MethodName} {D : va_G} {cl : List vw_C} {tys : List (ClassId × FieldType)} {L0 : Nat} {K : gKT} {av : List Value} {G : GH} {sz fr lo mc ms : Nat} {RR : Option Value → GH → Nat → Prop} {cc : ByteArray} {maxL : Nat} {ret : Option FieldType} {own : String} (hKo : gKo D cl tys K) (hy : plainName y.cls = true) (hlen : (lg_sl av).length ≤ maxL) (hown : y.cls = own)
    (body : ∀ p e R s m args below meth c A Q ls H, gX p m c cc maxL s args own D cl tys K A R ({ frames := fr, cells := mc, slots := ms, locals := lo } : Room) → gQ p l e R s m args below meth c cc D cl L0 A RR mc ms ret Q → (y.name = "<init>" → meth.name = "<init>") → gJ D cl L0 A s.heap G sz H [] → lv_has ls maxL (lv_args 0 av) → W p l e R s m args below meth c H [] 0 0 Q (F0 m 0 ls [])) : gMet l y (ws_ y cc maxL ret) D cl L0 K av G sz fr lo mc ms RR := by
  refine Met.ofW (cc := cc) (maxL := maxL) (ret := ret) hy rfl ?_
  intro p e s m args below meth c s₁ B hml hv
  obtain ⟨rfl, hsz, hK, hat⟩ := hv
  subst hsz
  have hts := atoms_spec (ws := ws_ y cc maxL ret) B.pre
  have hts : ∀ w ∈ lw_all, w.before _ s = true := fun w h => hts w (List.mem_cons_of_mem _ h)
  have hfc : s.vm.findClass own = some m.cls := by rw [← hown]; exact findClass_of_methodNamed B.named
  have hl := lv_entry av (n := maxL) hlen
  rw [lg_entry_eq]
  refine body p e _ s m _ below meth c (gA L0 G s.heap.size) _ _ s.heap ⟨⟨B.exec, B.bytes, hml, hfc, hts⟩, hKo.2 _ _ _ hK, hKo, hK, rfl⟩ ⟨B.exec, B.bytes, B.returns, B.notSynchronized, G, rfl, rfl⟩ (fun h => ?_) ⟨hat, fun a e h hl => Or.inl ⟨hl, e, h⟩, va_S.rf, fun q h => Or.inr h, rfl⟩ hl
  rw [← h]
  exact (name_of_methodNamed B.named B.method).1
