theorem ob0_u {δ : Type} {X : Option Unit} {f : Option δ} {o : δ} (h : ob0 X f = some o) : ∃ Y, X = some Y ∧ (Y = () → f = some o) := by
  cases X with
  | none => cases h
  | some a => exact ⟨a, rfl, fun  e => by cases e; exact h⟩
def oe0 {ρ δ : Type} (X : Option (ρ ⊕ Unit)) (r : ρ → Option δ) (f : Option δ) : Option δ := match X with | none => none | some (.inl a) => r a | some (.inr a) => f
theorem oe0_u {ρ δ : Type} {X : Option (ρ ⊕ Unit)} {r : ρ → Option δ} {f : Option δ} {o : δ} (h : oe0 X r f = some o) : ∃ Y, X = some Y ∧ (∀ a, Y = Sum.inl a → r a = some o) ∧ (Y = Sum.inr () → f = some o) := by
  match X, h with
  | some (.inl a), h => exact ⟨_, rfl, fun b e => (by cases e; exact h), fun  e => (by cases e)⟩
  | some (.inr a), h => exact ⟨_, rfl, fun b e => (by cases e), fun  e => (by cases e; exact h)⟩
theorem ob1_u {α δ : Type} {X : Option α} {f : α → Option δ} {o : δ} (h : ob1 X f = some o) : ∃ Y, X = some Y ∧ (∀ x0, Y = x0 → f x0 = some o) := by
  cases X with
  | none => cases h
  | some a => exact ⟨a, rfl, fun x0 e => by cases e; exact h⟩
def oe1 {ρ α δ : Type} (X : Option (ρ ⊕ α)) (r : ρ → Option δ) (f : α → Option δ) : Option δ := match X with | none => none | some (.inl a) => r a | some (.inr a) => f a
theorem oe1_u {ρ α δ : Type} {X : Option (ρ ⊕ α)} {r : ρ → Option δ} {f : α → Option δ} {o : δ} (h : oe1 X r f = some o) : ∃ Y, X = some Y ∧ (∀ a, Y = Sum.inl a → r a = some o) ∧ (∀ x0, Y = Sum.inr x0 → f x0 = some o) := by
  match X, h with
  | some (.inl a), h => exact ⟨_, rfl, fun b e => (by cases e; exact h), fun x0 e => (by cases e)⟩
  | some (.inr a), h => exact ⟨_, rfl, fun b e => (by cases e), fun x0 e => (by cases e; exact h)⟩
theorem ob2_u {α β δ : Type} {X : Option (α × β)} {f : α → β → Option δ} {o : δ} (h : ob2 X f = some o) : ∃ Y, X = some Y ∧ (∀ x0 x1, Y = (x0, x1) → f x0 x1 = some o) := by
  cases X with
  | none => cases h
  | some a => exact ⟨a, rfl, fun x0 x1 e => by cases e; exact h⟩
def oe2 {ρ α β δ : Type} (X : Option (ρ ⊕ (α × β))) (r : ρ → Option δ) (f : α → β → Option δ) : Option δ := match X with | none => none | some (.inl a) => r a | some (.inr a) => f a.1 a.2
theorem oe2_u {ρ α β δ : Type} {X : Option (ρ ⊕ (α × β))} {r : ρ → Option δ} {f : α → β → Option δ} {o : δ} (h : oe2 X r f = some o) : ∃ Y, X = some Y ∧ (∀ a, Y = Sum.inl a → r a = some o) ∧ (∀ x0 x1, Y = Sum.inr (x0, x1) → f x0 x1 = some o) := by
  match X, h with
  | some (.inl a), h => exact ⟨_, rfl, fun b e => (by cases e; exact h), fun x0 x1 e => (by cases e)⟩
  | some (.inr a), h => exact ⟨_, rfl, fun b e => (by cases e), fun x0 x1 e => (by cases e; exact h)⟩
theorem ob3_u {α β γ δ : Type} {X : Option (α × β × γ)} {f : α → β → γ → Option δ} {o : δ} (h : ob3 X f = some o) : ∃ Y, X = some Y ∧ (∀ x0 x1 x2, Y = (x0, x1, x2) → f x0 x1 x2 = some o) := by
  cases X with
  | none => cases h
  | some a => exact ⟨a, rfl, fun x0 x1 x2 e => by cases e; exact h⟩
def oe3 {ρ α β γ δ : Type} (X : Option (ρ ⊕ (α × β × γ))) (r : ρ → Option δ) (f : α → β → γ → Option δ) : Option δ := match X with | none => none | some (.inl a) => r a | some (.inr a) => f a.1 a.2.1 a.2.2
theorem oe3_u {ρ α β γ δ : Type} {X : Option (ρ ⊕ (α × β × γ))} {r : ρ → Option δ} {f : α → β → γ → Option δ} {o : δ} (h : oe3 X r f = some o) : ∃ Y, X = some Y ∧ (∀ a, Y = Sum.inl a → r a = some o) ∧ (∀ x0 x1 x2, Y = Sum.inr (x0, x1, x2) → f x0 x1 x2 = some o) := by
  match X, h with
  | some (.inl a), h => exact ⟨_, rfl, fun b e => (by cases e; exact h), fun x0 x1 x2 e => (by cases e)⟩
  | some (.inr a), h => exact ⟨_, rfl, fun b e => (by cases e), fun x0 x1 x2 e => (by cases e; exact h)⟩
theorem ob4_u {α β γ ε δ : Type} {X : Option (α × β × γ × ε)} {f : α → β → γ → ε → Option δ} {o : δ} (h : ob4 X f = some o) : ∃ Y, X = some Y ∧ (∀ x0 x1 x2 x3, Y = (x0, x1, x2, x3) → f x0 x1 x2 x3 = some o) := by
  cases X with
  | none => cases h
  | some a => exact ⟨a, rfl, fun x0 x1 x2 x3 e => by cases e; exact h⟩
def oe4 {ρ α β γ ε δ : Type} (X : Option (ρ ⊕ (α × β × γ × ε))) (r : ρ → Option δ) (f : α → β → γ → ε → Option δ) : Option δ := match X with | none => none | some (.inl a) => r a | some (.inr a) => f a.1 a.2.1 a.2.2.1 a.2.2.2
theorem oe4_u {ρ α β γ ε δ : Type} {X : Option (ρ ⊕ (α × β × γ × ε))} {r : ρ → Option δ} {f : α → β → γ → ε → Option δ} {o : δ} (h : oe4 X r f = some o) : ∃ Y, X = some Y ∧ (∀ a, Y = Sum.inl a → r a = some o) ∧ (∀ x0 x1 x2 x3, Y = Sum.inr (x0, x1, x2, x3) → f x0 x1 x2 x3 = some o) := by
  match X, h with
  | some (.inl a), h => exact ⟨_, rfl, fun b e => (by cases e; exact h), fun x0 x1 x2 x3 e => (by cases e)⟩
  | some (.inr a), h => exact ⟨_, rfl, fun b e => (by cases e), fun x0 x1 x2 x3 e => (by cases e; exact h)⟩
theorem ob5_u {α β γ ε ζ δ : Type} {X : Option (α × β × γ × ε × ζ)} {f : α → β → γ → ε → ζ → Option δ} {o : δ} (h : ob5 X f = some o) : ∃ Y, X = some Y ∧ (∀ x0 x1 x2 x3 x4, Y = (x0, x1, x2, x3, x4) → f x0 x1 x2 x3 x4 = some o) := by
  cases X with
  | none => cases h
  | some a => exact ⟨a, rfl, fun x0 x1 x2 x3 x4 e => by cases e; exact h⟩
def oe5 {ρ α β γ ε ζ δ : Type} (X : Option (ρ ⊕ (α × β × γ × ε × ζ))) (r : ρ → Option δ) (f : α → β → γ → ε → ζ → Option δ) : Option δ := match X with | none => none | some (.inl a) => r a | some (.inr a) => f a.1 a.2.1 a.2.2.1 a.2.2.2.1 a.2.2.2.2
theorem oe5_u {ρ α β γ ε ζ δ : Type} {X : Option (ρ ⊕ (α × β × γ × ε × ζ))} {r : ρ → Option δ} {f : α → β → γ → ε → ζ → Option δ} {o : δ} (h : oe5 X r f = some o) : ∃ Y, X = some Y ∧ (∀ a, Y = Sum.inl a → r a = some o) ∧ (∀ x0 x1 x2 x3 x4, Y = Sum.inr (x0, x1, x2, x3, x4) → f x0 x1 x2 x3 x4 = some o) := by
  match X, h with
  | some (.inl a), h => exact ⟨_, rfl, fun b e => (by cases e; exact h), fun x0 x1 x2 x3 x4 e => (by cases e)⟩
  | some (.inr a), h => exact ⟨_, rfl, fun b e => (by cases e), fun x0 x1 x2 x3 x4 e => (by cases e; exact h)⟩
def ob6 {α β γ ε ζ η δ : Type} (X : Option (α × β × γ × ε × ζ × η)) (f : α → β → γ → ε → ζ → η → Option δ) : Option δ := match X with | none => none | some a => f a.1 a.2.1 a.2.2.1 a.2.2.2.1 a.2.2.2.2.1 a.2.2.2.2.2
theorem ob6_u {α β γ ε ζ η δ : Type} {X : Option (α × β × γ × ε × ζ × η)} {f : α → β → γ → ε → ζ → η → Option δ} {o : δ} (h : ob6 X f = some o) : ∃ Y, X = some Y ∧ (∀ x0 x1 x2 x3 x4 x5, Y = (x0, x1, x2, x3, x4, x5) → f x0 x1 x2 x3 x4 x5 = some o) := by
  cases X with
  | none => cases h
  | some a => exact ⟨a, rfl, fun x0 x1 x2 x3 x4 x5 e => by cases e; exact h⟩
def oe6 {ρ α β γ ε ζ η δ : Type} (X : Option (ρ ⊕ (α × β × γ × ε × ζ × η))) (r : ρ → Option δ) (f : α → β → γ → ε → ζ → η → Option δ) : Option δ := match X with | none => none | some (.inl a) => r a | some (.inr a) => f a.1 a.2.1 a.2.2.1 a.2.2.2.1 a.2.2.2.2.1 a.2.2.2.2.2
theorem oe6_u {ρ α β γ ε ζ η δ : Type} {X : Option (ρ ⊕ (α × β × γ × ε × ζ × η))} {r : ρ → Option δ} {f : α → β → γ → ε → ζ → η → Option δ} {o : δ} (h : oe6 X r f = some o) : ∃ Y, X = some Y ∧ (∀ a, Y = Sum.inl a → r a = some o) ∧ (∀ x0 x1 x2 x3 x4 x5, Y = Sum.inr (x0, x1, x2, x3, x4, x5) → f x0 x1 x2 x3 x4 x5 = some o) := by
  match X, h with
  | some (.inl a), h => exact ⟨_, rfl, fun b e => (by cases e; exact h), fun x0 x1 x2 x3 x4 x5 e => (by cases e)⟩
  | some (.inr a), h => exact ⟨_, rfl, fun b e => (by cases e), fun x0 x1 x2 x3 x4 x5 e => (by cases e; exact h)⟩
def gd {γ : Type} (c : Prop) [Decidable c] (f : Option γ) : Option γ := if c then f else none
theorem gd_e {γ : Type} {c : Prop} [Decidable c] {f : Option γ} {o : γ} (h : gd c f = some o) : c ∧ f = some o := by
  unfold gd at h
  split at h
  next hc => exact ⟨hc, h⟩
  next => cases h
theorem gb_if {α : Type} {c : Prop} [Decidable c] {P Q : Option α} {o : α} (h : (if c then P else Q) = some o) : (c ∧ P = some o) ∨ (¬ c ∧ Q = some o) := by
  by_cases hc : c
  · exact Or.inl ⟨hc, ifP h hc⟩
  · exact Or.inr ⟨hc, ifN h hc⟩
section GB
variable {p : Program} {l : Launch} {e : Env} {R : Room} {s : State} {m : MethodId} {args : Array Value} {below : List Frame} {meth : Method} {c : Code} {H : Heap} {locs : List Loc} {cells slots : Nat} {Q : State → Prop}
variable {cc : ByteArray} {pc : Nat} {ls : Array Slot} {rest : List Value}
theorem gb_icmp_eq (hx : p.tables.exec = Jvm.exec) (hb : c.code = cc) {x y : Int32} {off : Int} {tgt : Nat} (hdg : decode cc pc = .ok (.if_icmp .eq off, 3)) (ht : (pc : Int) + off = (tgt : Int)) {γ : Type} {P P2 : Option γ} {o : γ} (h : (if x = y then P else P2) = some o) (kt : P = some o → W p l e R s m args below meth c H locs cells slots Q (F0 m tgt ls rest)) (kf : P2 = some o → W p l e R s m args below meth c H locs cells slots Q (F0 m (pc + 3) ls rest)) : W p l e R s m args below meth c H locs cells slots Q (F0 m pc ls (.int y :: .int x :: rest)) := lv_icmp_eq hx hb hdg ht (fun q => kt (ifP h q)) (fun q => kf (ifN h q))
theorem gb_if_eq (hx : p.tables.exec = Jvm.exec) (hb : c.code = cc) {x : Int32} {off : Int} {tgt : Nat} (hdg : decode cc pc = .ok (.ifCond .eq off, 3)) (ht : (pc : Int) + off = (tgt : Int)) {γ : Type} {P P2 : Option γ} {o : γ} (h : (if x = 0 then P else P2) = some o) (kt : P = some o → W p l e R s m args below meth c H locs cells slots Q (F0 m tgt ls rest)) (kf : P2 = some o → W p l e R s m args below meth c H locs cells slots Q (F0 m (pc + 3) ls rest)) : W p l e R s m args below meth c H locs cells slots Q (F0 m pc ls (.int x :: rest)) := lv_if_eq hx hb hdg ht (fun q => kt (ifP h q)) (fun q => kf (ifN h q))
theorem gb_icmp_ne (hx : p.tables.exec = Jvm.exec) (hb : c.code = cc) {x y : Int32} {off : Int} {tgt : Nat} (hdg : decode cc pc = .ok (.if_icmp .ne off, 3)) (ht : (pc : Int) + off = (tgt : Int)) {γ : Type} {P P2 : Option γ} {o : γ} (h : (if x = y then P2 else P) = some o) (kt : P = some o → W p l e R s m args below meth c H locs cells slots Q (F0 m tgt ls rest)) (kf : P2 = some o → W p l e R s m args below meth c H locs cells slots Q (F0 m (pc + 3) ls rest)) : W p l e R s m args below meth c H locs cells slots Q (F0 m pc ls (.int y :: .int x :: rest)) := lv_icmp_ne hx hb hdg ht (fun q => kt (ifN h q)) (fun q => kf (ifP h q))
theorem gb_if_ne (hx : p.tables.exec = Jvm.exec) (hb : c.code = cc) {x : Int32} {off : Int} {tgt : Nat} (hdg : decode cc pc = .ok (.ifCond .ne off, 3)) (ht : (pc : Int) + off = (tgt : Int)) {γ : Type} {P P2 : Option γ} {o : γ} (h : (if x = 0 then P2 else P) = some o) (kt : P = some o → W p l e R s m args below meth c H locs cells slots Q (F0 m tgt ls rest)) (kf : P2 = some o → W p l e R s m args below meth c H locs cells slots Q (F0 m (pc + 3) ls rest)) : W p l e R s m args below meth c H locs cells slots Q (F0 m pc ls (.int x :: rest)) := lv_if_ne hx hb hdg ht (fun q => kt (ifN h q)) (fun q => kf (ifP h q))
theorem gb_icmp_lt (hx : p.tables.exec = Jvm.exec) (hb : c.code = cc) {x y : Int32} {off : Int} {tgt : Nat} (hdg : decode cc pc = .ok (.if_icmp .lt off, 3)) (ht : (pc : Int) + off = (tgt : Int)) {γ : Type} {P P2 : Option γ} {o : γ} (h : (if x < y then P else P2) = some o) (kt : P = some o → W p l e R s m args below meth c H locs cells slots Q (F0 m tgt ls rest)) (kf : P2 = some o → W p l e R s m args below meth c H locs cells slots Q (F0 m (pc + 3) ls rest)) : W p l e R s m args below meth c H locs cells slots Q (F0 m pc ls (.int y :: .int x :: rest)) := lv_icmp_lt hx hb hdg ht (fun q => kt (ifP h q)) (fun q => kf (ifN h q))
theorem gb_if_lt (hx : p.tables.exec = Jvm.exec) (hb : c.code = cc) {x : Int32} {off : Int} {tgt : Nat} (hdg : decode cc pc = .ok (.ifCond .lt off, 3)) (ht : (pc : Int) + off = (tgt : Int)) {γ : Type} {P P2 : Option γ} {o : γ} (h : (if x < 0 then P else P2) = some o) (kt : P = some o → W p l e R s m args below meth c H locs cells slots Q (F0 m tgt ls rest)) (kf : P2 = some o → W p l e R s m args below meth c H locs cells slots Q (F0 m (pc + 3) ls rest)) : W p l e R s m args below meth c H locs cells slots Q (F0 m pc ls (.int x :: rest)) := lv_if_lt hx hb hdg ht (fun q => kt (ifP h q)) (fun q => kf (ifN h q))
theorem gb_icmp_ge (hx : p.tables.exec = Jvm.exec) (hb : c.code = cc) {x y : Int32} {off : Int} {tgt : Nat} (hdg : decode cc pc = .ok (.if_icmp .ge off, 3)) (ht : (pc : Int) + off = (tgt : Int)) {γ : Type} {P P2 : Option γ} {o : γ} (h : (if y ≤ x then P else P2) = some o) (kt : P = some o → W p l e R s m args below meth c H locs cells slots Q (F0 m tgt ls rest)) (kf : P2 = some o → W p l e R s m args below meth c H locs cells slots Q (F0 m (pc + 3) ls rest)) : W p l e R s m args below meth c H locs cells slots Q (F0 m pc ls (.int y :: .int x :: rest)) := lv_icmp_ge hx hb hdg ht (fun q => kt (ifP h q)) (fun q => kf (ifN h q))
theorem gb_if_ge (hx : p.tables.exec = Jvm.exec) (hb : c.code = cc) {x : Int32} {off : Int} {tgt : Nat} (hdg : decode cc pc = .ok (.ifCond .ge off, 3)) (ht : (pc : Int) + off = (tgt : Int)) {γ : Type} {P P2 : Option γ} {o : γ} (h : (if 0 ≤ x then P else P2) = some o) (kt : P = some o → W p l e R s m args below meth c H locs cells slots Q (F0 m tgt ls rest)) (kf : P2 = some o → W p l e R s m args below meth c H locs cells slots Q (F0 m (pc + 3) ls rest)) : W p l e R s m args below meth c H locs cells slots Q (F0 m pc ls (.int x :: rest)) := lv_if_ge hx hb hdg ht (fun q => kt (ifP h q)) (fun q => kf (ifN h q))
theorem gb_icmp_gt (hx : p.tables.exec = Jvm.exec) (hb : c.code = cc) {x y : Int32} {off : Int} {tgt : Nat} (hdg : decode cc pc = .ok (.if_icmp .gt off, 3)) (ht : (pc : Int) + off = (tgt : Int)) {γ : Type} {P P2 : Option γ} {o : γ} (h : (if y < x then P else P2) = some o) (kt : P = some o → W p l e R s m args below meth c H locs cells slots Q (F0 m tgt ls rest)) (kf : P2 = some o → W p l e R s m args below meth c H locs cells slots Q (F0 m (pc + 3) ls rest)) : W p l e R s m args below meth c H locs cells slots Q (F0 m pc ls (.int y :: .int x :: rest)) := lv_icmp_gt hx hb hdg ht (fun q => kt (ifP h q)) (fun q => kf (ifN h q))
theorem gb_if_gt (hx : p.tables.exec = Jvm.exec) (hb : c.code = cc) {x : Int32} {off : Int} {tgt : Nat} (hdg : decode cc pc = .ok (.ifCond .gt off, 3)) (ht : (pc : Int) + off = (tgt : Int)) {γ : Type} {P P2 : Option γ} {o : γ} (h : (if 0 < x then P else P2) = some o) (kt : P = some o → W p l e R s m args below meth c H locs cells slots Q (F0 m tgt ls rest)) (kf : P2 = some o → W p l e R s m args below meth c H locs cells slots Q (F0 m (pc + 3) ls rest)) : W p l e R s m args below meth c H locs cells slots Q (F0 m pc ls (.int x :: rest)) := lv_if_gt hx hb hdg ht (fun q => kt (ifP h q)) (fun q => kf (ifN h q))
theorem gb_icmp_le (hx : p.tables.exec = Jvm.exec) (hb : c.code = cc) {x y : Int32} {off : Int} {tgt : Nat} (hdg : decode cc pc = .ok (.if_icmp .le off, 3)) (ht : (pc : Int) + off = (tgt : Int)) {γ : Type} {P P2 : Option γ} {o : γ} (h : (if x ≤ y then P else P2) = some o) (kt : P = some o → W p l e R s m args below meth c H locs cells slots Q (F0 m tgt ls rest)) (kf : P2 = some o → W p l e R s m args below meth c H locs cells slots Q (F0 m (pc + 3) ls rest)) : W p l e R s m args below meth c H locs cells slots Q (F0 m pc ls (.int y :: .int x :: rest)) := lv_icmp_le hx hb hdg ht (fun q => kt (ifP h q)) (fun q => kf (ifN h q))
theorem gb_if_le (hx : p.tables.exec = Jvm.exec) (hb : c.code = cc) {x : Int32} {off : Int} {tgt : Nat} (hdg : decode cc pc = .ok (.ifCond .le off, 3)) (ht : (pc : Int) + off = (tgt : Int)) {γ : Type} {P P2 : Option γ} {o : γ} (h : (if x ≤ 0 then P else P2) = some o) (kt : P = some o → W p l e R s m args below meth c H locs cells slots Q (F0 m tgt ls rest)) (kf : P2 = some o → W p l e R s m args below meth c H locs cells slots Q (F0 m (pc + 3) ls rest)) : W p l e R s m args below meth c H locs cells slots Q (F0 m pc ls (.int x :: rest)) := lv_if_le hx hb hdg ht (fun q => kt (ifP h q)) (fun q => kf (ifN h q))
theorem gb_nm {x : Int32} {γ : Type} {f : Int32 → Option γ} {o : γ} (h : nm x f = some o) (kk : ∀ y : Int32, f y = some o → W p l e R s m args below meth c H locs cells slots Q (F0 m pc ls (.int y :: rest))) : W p l e R s m args below meth c H locs cells slots Q (F0 m pc ls (.int x :: rest)) := kk x h
theorem gb_nmj {x : Int64} {γ : Type} {f : Int64 → Option γ} {o : γ} (h : nm x f = some o) (kk : ∀ y : Int64, f y = some o → W p l e R s m args below meth c H locs cells slots Q (F0 m pc ls (.long y :: rest))) : W p l e R s m args below meth c H locs cells slots Q (F0 m pc ls (.long x :: rest)) := kk x h
theorem gb_nmd {x : UInt64} {γ : Type} {f : UInt64 → Option γ} {o : γ} (h : nm x f = some o) (kk : ∀ y : UInt64, f y = some o → W p l e R s m args below meth c H locs cells slots Q (F0 m pc ls (.double y :: rest))) : W p l e R s m args below meth c H locs cells slots Q (F0 m pc ls (.double x :: rest)) := kk x h
theorem gb_iinc {k' : Int32} (hx : p.tables.exec = Jvm.exec) (hb : c.code = cc) {i nL k : Nat} {n : Int} {x : Int32} {lv : List (Nat × Value)} (hdg : decode cc pc = .ok (.iinc i n, 3)) (hl : lv_has ls nL lv) (hk : lv[k]? = some (i, .int x)) (hv : Int32.ofInt n = k') (hn : i < nL) {γ : Type} {f : Int32 → Option γ} {o : γ} (h : nm (x + k') f = some o)
    (kk : ∀ (y : Int32) (ls' : Array Slot), f y = some o → lv_has ls' nL ((i, Value.int y) :: lv.filter (fun q => !(q.1 == i) && !(q.1 + 1 == i && q.2.category == 2))) → W p l e R s m args below meth c H locs cells slots Q (F0 m (pc + 3) ls' rest)) : W p l e R s m args below meth c H locs cells slots Q (F0 m pc ls rest) :=
  lv_iinc hx hb hdg hl hk (v := x + k') (by rw [hv]) hn rfl (fun ls' h' => kk (x + k') ls' h h')
theorem gb_irem (hx : p.tables.exec = Jvm.exec) (hb : c.code = cc) {x y : Int32} (hdg : decode cc pc = .ok (.irem, 1)) {γ : Type} {f : Option γ} {o : γ} (h : gd (¬ y = 0) f = some o) (kk : f = some o → W p l e R s m args below meth c H locs cells slots Q (F0 m (pc + 1) ls (.int (x - x / y * y) :: rest))) : W p l e R s m args below meth c H locs cells slots Q (F0 m pc ls (.int y :: .int x :: rest)) :=
  lv_irem hx hb hdg (gd_e h).1 (kk (gd_e h).2)
theorem gb_idiv (hx : p.tables.exec = Jvm.exec) (hb : c.code = cc) {x y : Int32} (hdg : decode cc pc = .ok (.idiv, 1)) {γ : Type} {f : Option γ} {o : γ} (h : gd (¬ y = 0) f = some o) (kk : f = some o → W p l e R s m args below meth c H locs cells slots Q (F0 m (pc + 1) ls (.int (x / y) :: rest))) : W p l e R s m args below meth c H locs cells slots Q (F0 m pc ls (.int y :: .int x :: rest)) :=
  lv_idiv hx hb hdg (gd_e h).1 (kk (gd_e h).2)
theorem gb_ddiv (hx : p.tables.exec = Jvm.exec) (hb : c.code = cc) {x y : UInt64} (hdg : decode cc pc = .ok (.ddiv, 1)) {γ : Type} {f : Option γ} {o : γ} (h : gd (FP.ddiv x y &&& 0x7fffffffffffffff ≤ 0x7ff0000000000000) f = some o) (kk : f = some o → W p l e R s m args below meth c H locs cells slots Q (F0 m (pc + 1) ls (.double (FP.ddiv x y) :: rest))) : W p l e R s m args below meth c H locs cells slots Q (F0 m pc ls (.double y :: .double x :: rest)) :=
  lv_ddiv hx hb hdg (gd_e h).1 (kk (gd_e h).2)
theorem gb_tabIn (hx : p.tables.exec = Jvm.exec) (hb : c.code = cc) {dflt lo hi : Int} {offs : Array Int} {len : Nat} {x k : Int32} {off : Int} {tgt : Nat} (hdg : decode cc pc = .ok (.tableswitch dflt lo hi offs, len)) (hc : x = k) (h1 : ¬ k.toInt < lo) (h2 : ¬ hi < k.toInt) (ho : offs[(k.toInt - lo).toNat]? = some off) (ht : (pc : Int) + off = (tgt : Int)) (kk : W p l e R s m args below meth c H locs cells slots Q (F0 m tgt ls rest)) : W p l e R s m args below meth c H locs cells slots Q (F0 m pc ls (.int x :: rest)) := by
  subst hc
  exact lv_tableIn hx hb hdg h1 h2 ho ht kk
end GB
/-- the classes, by their places -/
def clX : List vw_C := [(RX1, TX1, 7), (RX2, TX2, 26), (RX3, TX3, 10), (RX4, TX4, 2), (RX5, TX5, 5), (RX6, TX6, 35), (RX7, TX7, 7), (RX9, TX9, 8), (RX10, TX10, 8), (RX11, TX11, 6), (RX12, TX12, 2), (RX13, TX13, 6), (RJ2, TJ2, 3), (RJ18, TJ18, 3), (RJ24, TJ24, 4), (RJ8, TJ8, 4), (RJ9, TJ9, 4), (RJ6, TJ6, 6), (RJ19, TJ19, 6), (RJ20, TJ20, 6), (RJ23, TJ23, 6)]
/-- the classes of arrays: int, byte, boolean, long, Object, State -/
def tyA (dA : Nat → ClassId) : List (ClassId × FieldType) := [(dA 0, .int), (dA 1, .byte), (dA 2, .boolean), (dA 3, .long), (dA 4, .object "java/lang/Object"), (dA 5, .object "BlackoutStart$State")]
