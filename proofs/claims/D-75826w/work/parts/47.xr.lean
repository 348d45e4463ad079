/-! the component's calls, all alike: an exception's number or an answer, and the world after -/
abbrev XR : Type := (Nat ⊕ Int32) × XS
def XRR (dA : Nat → ClassId) (L0 x : Nat) (r : XR) : Option Value → GH → Nat → Prop := fun v G' _ => ∃ k, r.1 = .inr k ∧ v = some (.int k) ∧ ∃ b' d', XW dA L0 x r.2 b' d' G'
def XRV (dA : Nat → ClassId) (L0 x : Nat) (r : XR) : Option Value → GH → Nat → Prop := fun v G' _ => ∃ k, r.1 = .inr k ∧ v = none ∧ ∃ b' d', XW dA L0 x r.2 b' d' G'
def XRT (dA : Nat → ClassId) (L0 x : Nat) (r : XR) : String → Addr → GH → Prop := fun E _ G' => ∃ k, r.1 = .inl k ∧ E = exN k ∧ ∃ b' d', XW dA L0 x r.2 b' d' G'
/-- of a call that only looks -/
def x_look (κ : XS) (o : Option (Nat ⊕ Int32)) : Option XR := ob1 o fun a => some (a, κ)
/-- of a call that changes the state -/
def x_chg (κ : XS) (o : Option (Nat ⊕ (Int32 × SS))) : Option XR := ob1 o fun a => match a with
  | .inl k => some (.inl k, κ)
  | .inr v => some (.inr v.1, (κ.1, κ.2.1, v.2, κ.2.2.2.1, κ.2.2.2.2.1, xh κ.2.2.2.2.2.1 κ.2.2.1, κ.2.2.2.2.2.2))
/-- of a call that writes the buffer -/
def x_buf (κ : XS) (o : Option (Nat ⊕ (Int32 × (Nat → Int32) × (Nat → Int32)))) : Option XR := ob1 o fun a => match a with
  | .inl k => some (.inl k, κ)
  | .inr v => some (.inr v.1, (κ.1, κ.2.1, κ.2.2.1, v.2.1, v.2.2, κ.2.2.2.2.2.1, κ.2.2.2.2.2.2))
def x_undo (κ : XS) : XR := match κ.2.2.2.2.2.1.getLast? with
  | none => (.inl 2, κ)
  | some la => (.inr (Int32.ofNat κ.2.2.2.2.2.1.dropLast.length), (κ.1, κ.2.1, la, κ.2.2.2.1, κ.2.2.2.2.1, κ.2.2.2.2.2.1.dropLast, κ.2.2.2.2.2.2))
def x_save (κ : XS) (p0 : Int32) : XR := match slN p0 with
  | none => (.inl 3, κ)
  | some k => (.inr 0, (κ.1, κ.2.1, κ.2.2.1, κ.2.2.2.1, κ.2.2.2.2.1, κ.2.2.2.2.2.1, fun i => if i = k then some (cpS κ.2.2.1) else κ.2.2.2.2.2.2 i))
def x_restore (κ : XS) (p0 : Int32) : XR := match slN p0 with
  | none => (.inl 3, κ)
  | some k => match κ.2.2.2.2.2.2 k with
    | none => (.inl 4, κ)
    | some τ => (.inr 0, (κ.1, κ.2.1, cpS τ, κ.2.2.2.1, κ.2.2.2.2.1, [], κ.2.2.2.2.2.2))
theorem gMetX.mono {l : Launch} {y : MethodName} {ws : List Cond} {D : va_G} {cl : List vw_C} {L0 : Nat} {K : gKT} {av : List Value} {G : GH} {sz fr lo mc ms : Nat} {RR RR' : Option Value → GH → Nat → Prop} {RT RT' : String → Addr → GH → Prop} (h : gMetX l y ws D cl L0 K av G sz fr lo mc ms RR RT) (h1 : ∀ v G n, RR v G n → RR' v G n) (h2 : ∀ E q G, RT E q G → RT' E q G) : gMetX l y ws D cl L0 K av G sz fr lo mc ms RR' RT' := by
  intro p e a1 a2 a3 s m args below a4 a5 a6 a7
  obtain ⟨n, o, c1, c2, c3, c4⟩ := h p e a1 a2 a3 s m args below a4 a5 a6 a7
  refine ⟨n, o, c1, c2, c3, ?_⟩
  rcases c4 with ⟨⟨⟨v, G', e1, e2, e3⟩, e4⟩, e5⟩ | ⟨q, e0, E, ce, L, ⟨⟨G', e1, e2⟩, e3⟩, e4⟩
  · exact Or.inl ⟨⟨⟨v, G', e1, h1 _ _ _ e2, e3⟩, e4⟩, e5⟩
  · exact Or.inr ⟨q, e0, E, ce, L, ⟨⟨G', h2 _ _ _ e1, e2⟩, e3⟩, e4⟩
section XR
variable {dA : Nat → ClassId} {L0 x b d : Nat} {su : SU} {sc : SC} {σ : SS} {iv by_ : Nat → Int32} {hi : List SS} {so : Nat → Option SS} {G : GH} {κ : XS} {r : XR}
theorem x_lookR {o : Option (Nat ⊕ Int32)} (hX : XW dA L0 x κ b d G) {out : Nat ⊕ Int32} (ho : o = some out) (hr : x_look κ o = some r) : (∀ (v : Option Value) (G' : GH) (n : Nat), (∃ k, out = .inr k ∧ v = some (.int k) ∧ gx G G') → XRR dA L0 x r v G' n) ∧ ∀ (E : String) (q : Addr) (G' : GH), (∃ k, out = .inl k ∧ E = exN k ∧ gx G G') → XRT dA L0 x r E q G' := by
  subst ho
  have hr : some (out, κ) = some r := hr
  cases hr
  exact ⟨fun v G' n ⟨k, h1, h2, h3⟩ => ⟨k, h1, h2, b, d, hX.ext h3⟩, fun E q G' ⟨k, h1, h2, h3⟩ => ⟨k, h1, h2, b, d, hX.ext h3⟩⟩
theorem x_chgR {o : Option (Nat ⊕ (Int32 × SS))} (hX : XW dA L0 x (su, sc, σ, iv, by_, hi, so) b d G) {out : Nat ⊕ (Int32 × SS)} (ho : o = some out) (hr : x_chg (su, sc, σ, iv, by_, hi, so) o = some r) : (∀ (v : Option Value) (G' : GH) (n : Nat), (∃ k σ' b' d', out = .inr (k, σ') ∧ v = some (.int k) ∧ XW dA L0 x (su, sc, σ', iv, by_, xh hi σ, so) b' d' G') → XRR dA L0 x r v G' n) ∧ ∀ (E : String) (q : Addr) (G' : GH), (∃ k, out = .inl k ∧ E = exN k ∧ gx G G') → XRT dA L0 x r E q G' := by
  subst ho
  refine ⟨fun v G' n h => ?_, fun E q G' h => ?_⟩
  · obtain ⟨k, σ', b', d', rfl, h2, h3⟩ := h
    cases hr
    exact ⟨k, rfl, h2, b', d', h3⟩
  · obtain ⟨k, rfl, h2, h3⟩ := h
    cases hr
    exact ⟨k, rfl, h2, b, d, hX.ext h3⟩
theorem x_bufR {o : Option (Nat ⊕ (Int32 × (Nat → Int32) × (Nat → Int32)))} (hX : XW dA L0 x (su, sc, σ, iv, by_, hi, so) b d G) {out : Nat ⊕ (Int32 × (Nat → Int32) × (Nat → Int32))} (ho : o = some out) (hr : x_buf (su, sc, σ, iv, by_, hi, so) o = some r) : (∀ (v : Option Value) (G' : GH) (n : Nat), (∃ k iv' by', out = .inr (k, iv', by') ∧ v = some (.int k) ∧ XW dA L0 x (su, sc, σ, iv', by', hi, so) b d G') → XRR dA L0 x r v G' n) ∧ ∀ (E : String) (q : Addr) (G' : GH), (∃ k, out = .inl k ∧ E = exN k ∧ gx G G') → XRT dA L0 x r E q G' := by
  subst ho
  refine ⟨fun v G' n h => ?_, fun E q G' h => ?_⟩
  · obtain ⟨k, iv', by', rfl, h2, h3⟩ := h
    cases hr
    exact ⟨k, rfl, h2, b, d, h3⟩
  · obtain ⟨k, rfl, h2, h3⟩ := h
    cases hr
    exact ⟨k, rfl, h2, b, d, hX.ext h3⟩
end XR
