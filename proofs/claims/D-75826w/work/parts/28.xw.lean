/-! THE COMPONENT's WORLD: the object at x, its buffer, its history, its slots, the states that it keeps -/
def blkAt (dA : Nat → ClassId) (b d u : Nat) (sc : SC) (σ : SS) (G : GH) : Prop := G b = some (.inr (1, sv b d u σ)) ∧ ∀ j, 1 ≤ j ∧ j ≤ 17 → G (b + d + j) = some (sE dA b d u sc σ j)
abbrev BA : Type := Nat × Nat
def bdis (p q : BA) : Prop := p.1 + p.2 + 17 < q.1 ∨ q.1 + q.2 + 17 < p.1
/-- setup, script, what changes, the object's ints (1 buffered, 2 3 the error), the buffer, the history (oldest first), the slots -/
abbrev XS : Type := SU × SC × SS × (Nat → Int32) × (Nat → Int32) × List SS × (Nat → Option SS)
def dqR (f : Nat → Option Nat) (h t : Int32) (L : List Nat) : Prop := ∃ k : Nat, k < 17 ∧ h = nI k ∧ L.length ≤ 8 ∧ t = nI ((k + L.length) % 17) ∧ ∀ i, i < 17 → f i = L[(i + 17 - k) % 17]?
def slR (S : Nat → Option (BA × SS)) : List (BA × SS) := (S 0).toList ++ (S 1).toList
def scE (dA : Nat → ClassId) (sc : SC) : va_E := .inl (dA 0, sc.2.1, .inl sc.2.2)
/-- a state that is kept, with the setup outside of it -/
def kept (dA : Nat → ClassId) (L0 : Nat) (su : SU) (sc : SC) (G : GH) (z : BA × SS) : Prop := L0 ≤ z.1.1 ∧ blkAt dA z.1.1 z.1.2 (su.1 0) sc z.2 G ∧ suOK dA su z.1.1 z.1.2 G ∧ suAt z.1.1 z.1.2 G sc.1 (scE dA sc)
def xV (bb b hd sl : Nat) (iv : Nat → Int32) : List Value := [.ref bb, .int (iv 1), .int (iv 2), .int (iv 3), .ref b, .ref hd, .ref sl]
def aO (dA : Nat → ClassId) (t n : Nat) (f : Nat → Option Nat) : va_E := .inl (dA t, n, .inr (.inr (.inr (.inr f))))
def XO (dA : Nat → ClassId) (L0 x : Nat) (κ : XS) (b d : Nat) (G : GH) (bb hd he sl : Nat) (f : Nat → Option Nat) (h t : Int32) (Bs : List (BA × SS)) (S : Nat → Option (BA × SS)) : Prop :=
  (G x = some (.inr (0, xV bb b hd sl κ.2.2.2.1)) ∧ G bb = some (.inl (dA 1, 900, .inl κ.2.2.2.2.1)) ∧ G hd = some (.inr (13, [.ref he, .int h, .int t])) ∧ G he = some (aO dA 4 17 f) ∧ G sl = some (aO dA 5 2 (fun i => (S i).map (·.1.1)))) ∧
  (L0 ≤ x ∧ L0 ≤ bb ∧ L0 ≤ hd ∧ L0 ≤ he ∧ L0 ≤ sl) ∧ dqR f h t (Bs.map (·.1.1)) ∧ κ.2.2.2.2.2.1 = Bs.map (·.2) ∧ (∀ i, κ.2.2.2.2.2.2 i = (S i).map (·.2)) ∧ kept dA L0 κ.1 κ.2.1 G ((b, d), κ.2.2.1) ∧ (∀ z ∈ Bs ++ slR S, kept dA L0 κ.1 κ.2.1 G z ∧ bdis (b, d) z.1) ∧ (Bs ++ slR S).Pairwise (fun p q => bdis p.1 q.1) ∧ κ.1.1 4 = κ.2.1.1 ∧ he ≠ κ.1.1 5 ∧ he ≠ κ.1.1 6 ∧ sl ≠ κ.1.1 5 ∧ sl ≠ κ.1.1 6 ∧ bb ≠ κ.2.1.1
def XW (dA : Nat → ClassId) (L0 x : Nat) (κ : XS) (b d : Nat) (G : GH) : Prop := ∃ (bb hd he sl : Nat) (f : Nat → Option Nat) (h t : Int32) (Bs : List (BA × SS)) (S : Nat → Option (BA × SS)), XO dA L0 x κ b d G bb hd he sl f h t Bs S
section XW
variable {dA : Nat → ClassId} {L0 x b d u a : Nat} {su : SU} {sc : SC} {σ σ' : SS} {G G0 G1 : GH} {e : va_E} {κ : XS}
theorem sG_id (h : blkAt dA b d u sc σ G) : sG dA b d u sc σ G = G := by
  funext q
  unfold sG
  by_cases h0 : q = b
  · subst h0
    rw [if_pos rfl, h.1]
    rfl
  · rw [if_neg h0]
    by_cases h1 : b + d < q ∧ q ≤ b + d + 17
    · rw [if_pos h1, ← h.2 (q - (b + d)) (by omega), show b + d + (q - (b + d)) = q from by omega]
    · rw [if_neg h1]
theorem blkAt_sG : blkAt dA b d u sc σ (sG dA b d u sc σ G0) := ⟨sG_0, fun j hj => sG_at hj⟩
theorem blkAt.ext (h : blkAt dA b d u sc σ G) (hx : gx G G1) : blkAt dA b d u sc σ G1 := ⟨hx _ _ h.1, fun j hj => hx _ _ (h.2 j hj)⟩
theorem kept.ext {z : BA × SS} (h : kept dA L0 su sc G z) (hx : gx G G1) : kept dA L0 su sc G1 z := ⟨h.1, h.2.1.ext hx, h.2.2.1.ext hx, h.2.2.2.ext hx⟩
theorem XO.ext {bb hd he sl : Nat} {f : Nat → Option Nat} {h t : Int32} {Bs : List (BA × SS)} {S : Nat → Option (BA × SS)} (o : XO dA L0 x κ b d G bb hd he sl f h t Bs S) (hx : gx G G1) : XO dA L0 x κ b d G1 bb hd he sl f h t Bs S := by
  obtain ⟨⟨a1, a2, a3, a4, a5⟩, hL, hq, hh, hs, hk, hz, hp, h4⟩ := o
  exact ⟨⟨hx _ _ a1, hx _ _ a2, hx _ _ a3, hx _ _ a4, hx _ _ a5⟩, hL, hq, hh, hs, hk.ext hx, fun z q => ⟨(hz z q).1.ext hx, (hz z q).2⟩, hp, h4⟩
theorem XW.ext (h : XW dA L0 x κ b d G) (hx : gx G G1) : XW dA L0 x κ b d G1 := by
  obtain ⟨bb, hd, he, sl, f, h, t, Bs, S, o⟩ := h
  exact ⟨bb, hd, he, sl, f, h, t, Bs, S, o.ext hx⟩
/-- a cell that can be none of a block's -/
theorem blk_out (h : blkAt dA b d u sc σ G) (ha : G a = some e) (hne : ∀ j, e ≠ sE dA b d u sc σ j) : gO b d a := by
  refine ⟨fun q => ?_, ?_⟩
  · subst q
    rw [h.1] at ha
    exact hne 0 (Option.some.inj ha).symm
  · by_cases h1 : b + d < a ∧ a ≤ b + d + 17
    · have h2 := h.2 (a - (b + d)) (by omega)
      rw [show b + d + (a - (b + d)) = a from by omega, ha] at h2
      exact absurd (Option.some.inj h2) (hne _)
    · omega
theorem ne_x {fs : List Value} {i : Nat} (hi : i = 0 ∨ i = 13) : ∀ j, (Sum.inr (i, fs) : va_E) ≠ sE dA b d u sc σ j := by
  intro j q
  unfold sE at q
  rcases hi with rfl | rfl <;> split at q <;> simp at q
theorem ne_bb {f : Nat → Int32} : ∀ j, (Sum.inl (dA 1, 900, .inl f) : va_E) ≠ sE dA b d u sc σ j := by
  intro j q
  unfold sE at q
  split at q
  · cases q
  · cases q
  · cases q
  · cases q
  · simp at q
    unfold sL at q
    split at q <;> omega
theorem ne_aO {t n : Nat} {f : Nat → Option Nat} : ∀ j, aO dA t n f ≠ sE dA b d u sc σ j := by
  intro j q
  unfold sE aO at q
  split at q <;> simp at q
theorem bdis.out {p q : BA} (h : bdis p q) {a : Nat} (ha : q.1 ≤ a ∧ a ≤ q.1 + q.2 + 17) : gO p.1 p.2 a := by
  unfold bdis at h
  unfold gO
  omega
/-- what lies outside of a block, with the block's contents new -/
theorem sG_gx (hx : gx G G1) (ha : G a = some e) (ho : gO b d a) : sG dA b d u sc σ' G1 a = some e := by rw [sG_out ho]; exact hx _ _ ha
theorem suAt.blk (hx : gx G G1) (h : suAt b d G a e) : suAt b d (sG dA b d u sc σ' G1) a e := ⟨sG_gx hx h.1 h.2, h.2⟩
theorem suOK.blk (hx : gx G G1) (h : suOK dA su b d G) : suOK dA su b d (sG dA b d u sc σ' G1) := by
  obtain ⟨h1, h2, h3, h4, h5, h6, h7, h8, h9⟩ := h
  exact ⟨h1.blk hx, h2.blk hx, h3.blk hx, h4.blk hx, h5.blk hx, h6.blk hx, fun k hk => (h7 k hk).blk hx, fun k hk => (h8 k hk).blk hx, h9⟩
theorem suAt.both {z1 z2 : Nat} (h : suAt z1 z2 G a e) (hc : suAt b d G a e) (hx : gx G G1) : suAt z1 z2 (sG dA b d u sc σ' G1) a e := ⟨sG_gx hx h.1 hc.2, h.2⟩
theorem suOK.both {z1 z2 : Nat} (h : suOK dA su z1 z2 G) (hc : suOK dA su b d G) (hx : gx G G1) : suOK dA su z1 z2 (sG dA b d u sc σ' G1) := by
  obtain ⟨h1, h2, h3, h4, h5, h6, h7, h8, h9⟩ := h
  obtain ⟨c1, c2, c3, c4, c5, c6, c7, c8, c9⟩ := hc
  exact ⟨h1.both c1 hx, h2.both c2 hx, h3.both c3 hx, h4.both c4 hx, h5.both c5 hx, h6.both c6 hx, fun k hk => (h7 k hk).both (c7 k hk) hx, fun k hk => (h8 k hk).both (c8 k hk) hx, h9⟩
theorem blkAt.both {z1 z2 : Nat} {τ : SS} (h : blkAt dA z1 z2 u sc τ G) (hd : bdis (b, d) (z1, z2)) (hx : gx G G1) : blkAt dA z1 z2 u sc τ (sG dA b d u sc σ' G1) :=
  ⟨sG_gx hx h.1 (hd.out (by show z1 ≤ z1 ∧ z1 ≤ z1 + z2 + 17; omega)), fun j hj => sG_gx hx (h.2 j hj) (hd.out (by show z1 ≤ z1 + z2 + j ∧ z1 + z2 + j ≤ z1 + z2 + 17; omega))⟩
theorem kept.both {z : BA × SS} (h : kept dA L0 su sc G z) (hc : kept dA L0 su sc G ((b, d), σ)) (hd : bdis (b, d) z.1) (hx : gx G G1) : kept dA L0 su sc (sG dA b d (su.1 0) sc σ' G1) z :=
  ⟨h.1, h.2.1.both hd hx, h.2.2.1.both hc.2.2.1 hx, h.2.2.2.both hc.2.2.2 hx⟩
theorem kept.new (hc : kept dA L0 su sc G ((b, d), σ)) (hx : gx G G1) : kept dA L0 su sc (sG dA b d (su.1 0) sc σ' G1) ((b, d), σ') := ⟨hc.1, blkAt_sG, hc.2.2.1.blk hx, hc.2.2.2.blk hx⟩
/-- the state that is played on changes -/
theorem XO.upd {iv : Nat → Int32} {by_ : Nat → Int32} {hi : List SS} {so : Nat → Option SS} {bb hd he sl : Nat} {f : Nat → Option Nat} {h t : Int32} {Bs : List (BA × SS)} {S : Nat → Option (BA × SS)} (o : XO dA L0 x (su, sc, σ, iv, by_, hi, so) b d G bb hd he sl f h t Bs S) (hx : gx G G1) : XO dA L0 x (su, sc, σ', iv, by_, hi, so) b d (sG dA b d (su.1 0) sc σ' G1) bb hd he sl f h t Bs S := by
  obtain ⟨⟨a1, a2, a3, a4, a5⟩, hL, hq, hh, hs, hk, hz, hp, h4⟩ := o
  have hb := hk.2.1
  exact ⟨⟨sG_gx hx a1 (blk_out hb a1 (ne_x (Or.inl rfl))), sG_gx hx a2 (blk_out hb a2 ne_bb), sG_gx hx a3 (blk_out hb a3 (ne_x (Or.inr rfl))), sG_gx hx a4 (blk_out hb a4 ne_aO), sG_gx hx a5 (blk_out hb a5 ne_aO)⟩, hL, hq, hh, hs, hk.new hx, fun z q => ⟨(hz z q).1.both hk (hz z q).2 hx, (hz z q).2⟩, hp, h4⟩
theorem XW.upd {iv : Nat → Int32} {by_ : Nat → Int32} {hi : List SS} {so : Nat → Option SS} (o : XW dA L0 x (su, sc, σ, iv, by_, hi, so) b d G) (hx : gx G G1) : XW dA L0 x (su, sc, σ', iv, by_, hi, so) b d (sG dA b d (su.1 0) sc σ' G1) := by
  obtain ⟨bb, hd, he, sl, f, h, t, Bs, S, o⟩ := o
  exact ⟨bb, hd, he, sl, f, h, t, Bs, S, o.upd hx⟩
/-- what a walk takes from it: the block's world, the setup, the script, the object and its parts outside of the block -/
theorem XO.use {iv : Nat → Int32} {by_ : Nat → Int32} {hi : List SS} {so : Nat → Option SS} {bb hd he sl : Nat} {f : Nat → Option Nat} {h t : Int32} {Bs : List (BA × SS)} {S : Nat → Option (BA × SS)} (o : XO dA L0 x (su, sc, σ, iv, by_, hi, so) b d G bb hd he sl f h t Bs S) :
    sG dA b d (su.1 0) sc σ G = G ∧ L0 ≤ b ∧ suOK dA su b d G ∧ suAt b d G sc.1 (scE dA sc) ∧ suAt b d G x (.inr (0, xV bb b hd sl iv)) ∧ suAt b d G bb (.inl (dA 1, 900, .inl by_)) ∧ suAt b d G hd (.inr (13, [.ref he, .int h, .int t])) ∧ suAt b d G he (aO dA 4 17 f) ∧ suAt b d G sl (aO dA 5 2 (fun i => (S i).map (·.1.1))) := by
  obtain ⟨⟨a1, a2, a3, a4, a5⟩, hL, hq, hh, hs, hk, hz, hp, h4⟩ := o
  have hb := hk.2.1
  exact ⟨sG_id hb, hk.1, hk.2.2.1, hk.2.2.2, ⟨a1, blk_out hb a1 (ne_x (Or.inl rfl))⟩, ⟨a2, blk_out hb a2 ne_bb⟩, ⟨a3, blk_out hb a3 (ne_x (Or.inr rfl))⟩, ⟨a4, blk_out hb a4 ne_aO⟩, ⟨a5, blk_out hb a5 ne_aO⟩⟩
end XW
