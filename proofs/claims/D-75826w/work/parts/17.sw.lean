/-! THE STATE's WORLD: a State at b, its arrays, its two orders, its wire: b .. b+17; the setup (read only) and the script are facts about what lies round it -/
abbrev SS : Type := (Nat → Int32) × (Nat → Nat → Int32)
/-- a script: its address, length, contents -/
abbrev SC : Type := Nat × Nat × (Nat → Int32)
/-- a setup: numbers (0 Setup, 1 outlets, 2 darks, 3 needs, 4 script, 5 6 the lists' arrays, 7 8 how many, 9 10 capacities), ints (4..9 fields, 10 11 modCounts), addresses of outlets and darks, fields of outlets, of darks, needs, addresses of names -/
abbrev SU : Type := (Nat → Nat) × (Nat → Int32) × (Nat → Nat) × (Nat → Nat) × (Nat → Nat → Int32) × (Nat → Nat → Int32) × (Nat → Int32) × (Nat → Nat)
def sL (j : Nat) : Nat := match j with | 13 => 72 | 15 => 72 | 16 => 6 | 17 => 6 | _ => 12
abbrev sI (j : Nat) : Prop := j = 1 ∨ j = 2 ∨ j = 3 ∨ j = 4 ∨ j = 5 ∨ j = 6 ∨ j = 7 ∨ j = 8 ∨ j = 10 ∨ j = 12 ∨ j = 13 ∨ j = 15 ∨ j = 16 ∨ j = 17
def sv (b d u : Nat) (σ : SS) : List Value := [.ref u, .ref (b + d + 1), .ref (b + d + 2), .ref (b + d + 3), .ref (b + d + 4), .ref (b + d + 5), .ref (b + d + 6), .ref (b + d + 7), .ref (b + d + 8), .ref (b + d + 14), .ref (b + d + 9), .ref (b + d + 11), .ref (b + d + 13), .int (σ.1 13), .int (σ.1 14), .int (σ.1 15), .int (σ.1 16), .int (σ.1 17), .int (σ.1 18), .int (σ.1 19), .int (σ.1 20), .int (σ.1 21), .int (σ.1 22), .int (σ.1 23), .int (σ.1 24), .int (σ.1 25)]
def sE (dA : Nat → ClassId) (b d u : Nat) (sc : SC) (σ : SS) (j : Nat) : va_E := match j with
  | 0 => .inr (1, sv b d u σ)
  | 9 => .inr (3, [.ref (b + d + 10), .int (σ.1 30)])
  | 11 => .inr (3, [.ref (b + d + 12), .int (σ.1 31)])
  | 14 => .inr (4, [.ref (b + d + 15), .ref (b + d + 16), .ref (b + d + 17), .int (σ.1 32), .ref sc.1])
  | j => .inl (dA 0, sL j, .inl (σ.2 j))
/-- outside of the block -/
def gO (b d a : Nat) : Prop := a ≠ b ∧ (a ≤ b + d ∨ b + d + 17 < a)
theorem gO_hi {b d a : Nat} (h : b + d + 17 < a) : gO b d a := ⟨by omega, Or.inr h⟩
theorem gO_lo {b d a : Nat} (h : a < b) : gO b d a := ⟨by omega, Or.inl (by omega)⟩
def sG (dA : Nat → ClassId) (b d u : Nat) (sc : SC) (σ : SS) (G0 : GH) : GH := fun q => if q = b then some (sE dA b d u sc σ 0) else if b + d < q ∧ q ≤ b + d + 17 then some (sE dA b d u sc σ (q - (b + d))) else G0 q
def S_sf (σ : SS) (k : Nat) (v : Int32) : SS := (upd σ.1 k v, σ.2)
def S_sa (σ : SS) (j i : Nat) (v : Int32) : SS := (σ.1, fun j' => if j' = j then upd (σ.2 j) i v else σ.2 j')
def S_sA (σ : SS) (j : Nat) (f : Nat → Int32) : SS := (σ.1, fun j' => if j' = j then f else σ.2 j')
def S_rd (σ : SS) (j : Nat) (i : Int32) : Option Int32 := if i < 0 ∨ sL j ≤ i.toNatClampNeg then none else some (σ.2 j i.toNatClampNeg)
def S_wr (σ : SS) (j : Nat) (i v : Int32) : Option SS := if i < 0 ∨ sL j ≤ i.toNatClampNeg then none else some (S_sa σ j i.toNatClampNeg v)
theorem S_rd_e {σ : SS} {j : Nat} {i v : Int32} (h : S_rd σ j i = some v) : vp_in i (sL j) ∧ σ.2 j i.toNatClampNeg = v := by
  unfold S_rd at h
  split at h
  next => cases h
  next hn => exact ⟨hn, Option.some.inj h⟩
theorem S_wr_e {σ σ' : SS} {j : Nat} {i v : Int32} (h : S_wr σ j i v = some σ') : vp_in i (sL j) ∧ S_sa σ j i.toNatClampNeg v = σ' := by
  unfold S_wr at h
  split at h
  next => cases h
  next hn => exact ⟨hn, Option.some.inj h⟩
/-- copying a stretch of an array to the start of another -/
def cpF (nf ng : Nat) (f h : Nat → Int32) (sp dp k : Int32) : Option (Nat → Int32) := if sp < 0 ∨ dp < 0 ∨ k < 0 ∨ nf < sp.toNatClampNeg + k.toNatClampNeg ∨ ng < dp.toNatClampNeg + k.toNatClampNeg then none else some (va_cpy f h sp.toNatClampNeg dp.toNatClampNeg k.toNatClampNeg)
theorem cpF_e {nf ng : Nat} {f h r : Nat → Int32} {sp dp k : Int32} (e : cpF nf ng f h sp dp k = some r) : ¬ sp < 0 ∧ ¬ dp < 0 ∧ ¬ k < 0 ∧ sp.toNatClampNeg + k.toNatClampNeg ≤ nf ∧ dp.toNatClampNeg + k.toNatClampNeg ≤ ng ∧ va_cpy f h sp.toNatClampNeg dp.toNatClampNeg k.toNatClampNeg = r := by
  unfold cpF at e
  split at e
  next => cases e
  next hn =>
    simp only [not_or] at hn
    exact ⟨hn.1, hn.2.1, hn.2.2.1, by omega, by omega, Option.some.inj e⟩
section SW
variable {dA : Nat → ClassId} {b d u : Nat} {sc : SC} {σ : SS} {G0 : GH}
theorem sG_at {j : Nat} (h : 1 ≤ j ∧ j ≤ 17) : sG dA b d u sc σ G0 (b + d + j) = some (sE dA b d u sc σ j) := by
  unfold sG
  rw [if_neg (by omega), if_pos (by omega), Nat.add_sub_cancel_left]
theorem sG_0 : sG dA b d u sc σ G0 b = some (.inr (1, sv b d u σ)) := if_pos rfl
theorem sG_9 : sG dA b d u sc σ G0 (b + d + 9) = some (.inr (3, [.ref (b + d + 10), .int (σ.1 30)])) := sG_at (by decide)
theorem sG_11 : sG dA b d u sc σ G0 (b + d + 11) = some (.inr (3, [.ref (b + d + 12), .int (σ.1 31)])) := sG_at (by decide)
theorem sG_14 : sG dA b d u sc σ G0 (b + d + 14) = some (.inr (4, [.ref (b + d + 15), .ref (b + d + 16), .ref (b + d + 17), .int (σ.1 32), .ref sc.1])) := sG_at (by decide)
theorem sG_out {a : Nat} (h : gO b d a) : sG dA b d u sc σ G0 a = G0 a := by
  unfold sG
  rw [if_neg h.1, if_neg (by have := h.2; omega)]
theorem sG_arr {j : Nat} (hj : sI j) : sG dA b d u sc σ G0 (b + d + j) = some (.inl (dA 0, sL j, .inl (σ.2 j))) := by
  rcases hj with rfl | rfl | rfl | rfl | rfl | rfl | rfl | rfl | rfl | rfl | rfl | rfl | rfl | rfl <;> exact sG_at (by decide)
theorem sG_put {j : Nat} {x : va_E} {σ' : SS} (hj : 1 ≤ j ∧ j ≤ 17) (h1 : sE dA b d u sc σ' j = x) (h2 : ∀ i, i ≤ 17 → i ≠ j → sE dA b d u sc σ' i = sE dA b d u sc σ i) : gU (sG dA b d u sc σ G0) (b + d + j) x = sG dA b d u sc σ' G0 := by
  subst h1
  funext q
  by_cases hq : q = b + d + j
  · subst hq
    rw [gU_s, sG_at hj]
  · rw [gU_n hq]
    unfold sG
    by_cases h0 : q = b
    · rw [if_pos h0, if_pos h0, h2 0 (by omega) (by omega)]
    · rw [if_neg h0, if_neg h0]
      by_cases h : b + d < q ∧ q ≤ b + d + 17
      · rw [if_pos h, if_pos h, h2 (q - (b + d)) (by omega) (by omega)]
      · rw [if_neg h, if_neg h]
theorem sG_put0 {x : va_E} {σ' : SS} (h1 : sE dA b d u sc σ' 0 = x) (h2 : ∀ i, i ≤ 17 → i ≠ 0 → sE dA b d u sc σ' i = sE dA b d u sc σ i) : gU (sG dA b d u sc σ G0) b x = sG dA b d u sc σ' G0 := by
  subst h1
  funext q
  by_cases hq : q = b
  · subst hq
    rw [gU_s]
    exact (if_pos rfl).symm
  · rw [gU_n hq]
    unfold sG
    rw [if_neg hq, if_neg hq]
    by_cases h : b + d < q ∧ q ≤ b + d + 17
    · rw [if_pos h, if_pos h, h2 (q - (b + d)) (by omega) (by omega)]
    · rw [if_neg h, if_neg h]
theorem sE_arr {j : Nat} (hj : sI j) (σ : SS) : sE dA b d u sc σ j = .inl (dA 0, sL j, .inl (σ.2 j)) := by
  rcases hj with rfl | rfl | rfl | rfl | rfl | rfl | rfl | rfl | rfl | rfl | rfl | rfl | rfl | rfl <;> rfl
theorem sE_cong {σ σ' : SS} (i : Nat) (h0 : i = 0 → ∀ k, 13 ≤ k → k ≤ 25 → σ'.1 k = σ.1 k) (h9 : i = 9 → σ'.1 30 = σ.1 30) (h11 : i = 11 → σ'.1 31 = σ.1 31) (h14 : i = 14 → σ'.1 32 = σ.1 32) (ha : σ'.2 i = σ.2 i) : sE dA b d u sc σ' i = sE dA b d u sc σ i := by
  unfold sE
  split
  · have h := h0 rfl
    simp only [sv, h 13 (by decide) (by decide), h 14 (by decide) (by decide), h 15 (by decide) (by decide), h 16 (by decide) (by decide), h 17 (by decide) (by decide), h 18 (by decide) (by decide), h 19 (by decide) (by decide), h 20 (by decide) (by decide), h 21 (by decide) (by decide), h 22 (by decide) (by decide), h 23 (by decide) (by decide), h 24 (by decide) (by decide), h 25 (by decide) (by decide)]
  · rw [h9 rfl]
  · rw [h11 rfl]
  · rw [h14 rfl]
  · rw [ha]
theorem S_sf_n {k i : Nat} {v : Int32} (h : i ≠ k) : (S_sf σ k v).1 i = σ.1 i := if_neg h
theorem sG_sf0 {k : Nat} {v : Int32} (hk : 13 ≤ k ∧ k ≤ 25) : gU (sG dA b d u sc σ G0) b (.inr (1, (sv b d u σ).set k (.int v))) = sG dA b d u sc (S_sf σ k v) G0 := by
  refine sG_put0 ?_ (fun i h1 h2 => sE_cong i (fun h => absurd h h2) (fun _ => S_sf_n (by omega)) (fun _ => S_sf_n (by omega)) (fun _ => S_sf_n (by omega)) rfl)
  have : k = 13 ∨ k = 14 ∨ k = 15 ∨ k = 16 ∨ k = 17 ∨ k = 18 ∨ k = 19 ∨ k = 20 ∨ k = 21 ∨ k = 22 ∨ k = 23 ∨ k = 24 ∨ k = 25 := by omega
  rcases this with rfl | rfl | rfl | rfl | rfl | rfl | rfl | rfl | rfl | rfl | rfl | rfl | rfl <;> rfl
theorem sG_sf14 {v : Int32} : gU (sG dA b d u sc σ G0) (b + d + 14) (.inr (4, [.ref (b + d + 15), .ref (b + d + 16), .ref (b + d + 17), .int v, .ref sc.1])) = sG dA b d u sc (S_sf σ 32 v) G0 :=
  sG_put (j := 14) (by decide) rfl (fun i h1 h2 => sE_cong i (fun _ k _ _ => S_sf_n (by omega)) (fun _ => S_sf_n (by decide)) (fun _ => S_sf_n (by decide)) (fun h => absurd h h2) rfl)
theorem sG_sf9 {v : Int32} : gU (sG dA b d u sc σ G0) (b + d + 9) (.inr (3, [.ref (b + d + 10), .int v])) = sG dA b d u sc (S_sf σ 30 v) G0 :=
  sG_put (j := 9) (by decide) rfl (fun i h1 h2 => sE_cong i (fun _ k _ _ => S_sf_n (by omega)) (fun h => absurd h h2) (fun _ => S_sf_n (by decide)) (fun _ => S_sf_n (by decide)) rfl)
theorem sG_sf11 {v : Int32} : gU (sG dA b d u sc σ G0) (b + d + 11) (.inr (3, [.ref (b + d + 12), .int v])) = sG dA b d u sc (S_sf σ 31 v) G0 :=
  sG_put (j := 11) (by decide) rfl (fun i h1 h2 => sE_cong i (fun _ k _ _ => S_sf_n (by omega)) (fun _ => S_sf_n (by decide)) (fun h => absurd h h2) (fun _ => S_sf_n (by decide)) rfl)
theorem sG_sA {j : Nat} {f : Nat → Int32} (hj : sI j) : gU (sG dA b d u sc σ G0) (b + d + j) (.inl (dA 0, sL j, .inl f)) = sG dA b d u sc (S_sA σ j f) G0 := by
  have hn : 1 ≤ j ∧ j ≤ 17 := by omega
  refine sG_put (j := j) hn ?_ (fun i h1 h2 => sE_cong i (fun _ _ _ _ => rfl) (fun _ => rfl) (fun _ => rfl) (fun _ => rfl) (by simp [S_sA, h2]))
  rw [sE_arr hj]
  simp [S_sA]
theorem S_sa_A {j i : Nat} {v : Int32} : S_sa σ j i v = S_sA σ j (upd (σ.2 j) i v) := rfl
/-- a cell outside of the block -/
def suAt (b d : Nat) (G0 : GH) (a : Nat) (e : va_E) : Prop := G0 a = some e ∧ gO b d a
theorem suAt.rd {a : Nat} {e : va_E} (h : suAt b d G0 a e) : sG dA b d u sc σ G0 a = some e := by rw [sG_out h.2]; exact h.1
def suV (su : SU) : List Value := [.ref (su.1 1), .ref (su.1 2), .ref (su.1 3), .ref (su.1 4), .int (su.2.1 4), .int (su.2.1 5), .int (su.2.1 6), .int (su.2.1 7), .int (su.2.1 8), .int (su.2.1 9)]
def suO (su : SU) (k : Nat) : List Value := [.ref (su.2.2.2.2.2.2.2 k), .int (su.2.2.2.2.1 k 1), .int (su.2.2.2.2.1 k 2), .int (su.2.2.2.2.1 k 3), .int (su.2.2.2.2.1 k 4), .int (su.2.2.2.2.1 k 5)]
def suD (su : SU) (k : Nat) : List Value := [.int (su.2.2.2.2.2.1 k 0), .int (su.2.2.2.2.2.1 k 1)]
def suF (n : Nat) (ad : Nat → Nat) (k : Nat) : Option Nat := if k < n then some (ad k) else none
def suOK (dA : Nat → ClassId) (su : SU) (b d : Nat) (G0 : GH) : Prop :=
  suAt b d G0 (su.1 0) (.inr (2, suV su)) ∧ suAt b d G0 (su.1 1) (.inr (12, [.int (su.2.1 10), .ref (su.1 5), .int (Int32.ofNat (su.1 7))])) ∧ suAt b d G0 (su.1 2) (.inr (12, [.int (su.2.1 11), .ref (su.1 6), .int (Int32.ofNat (su.1 8))])) ∧ suAt b d G0 (su.1 3) (.inl (dA 0, 12, .inl su.2.2.2.2.2.2.1)) ∧ suAt b d G0 (su.1 5) (.inl (dA 4, su.1 9, .inr (.inr (.inr (.inr (suF (su.1 7) su.2.2.1)))))) ∧ suAt b d G0 (su.1 6) (.inl (dA 4, su.1 10, .inr (.inr (.inr (.inr (suF (su.1 8) su.2.2.2.1)))))) ∧ (∀ k, k < su.1 7 → suAt b d G0 (su.2.2.1 k) (.inr (9, suO su k))) ∧ (∀ k, k < su.1 8 → suAt b d G0 (su.2.2.2.1 k) (.inr (10, suD su k))) ∧ su.1 7 ≤ su.1 9 ∧ su.1 8 ≤ su.1 10 ∧ su.1 7 ≤ 12 ∧ su.1 8 ≤ 4 ∧ su.1 10 ≤ 64
theorem suAt.ext {a : Nat} {e : va_E} {G1 : GH} (h : suAt b d G0 a e) (hx : ∀ a e, G0 a = some e → G1 a = some e) : suAt b d G1 a e := ⟨hx _ _ h.1, h.2⟩
theorem suOK.ext {su : SU} {G1 : GH} (h : suOK dA su b d G0) (hx : ∀ a e, G0 a = some e → G1 a = some e) : suOK dA su b d G1 := by
  obtain ⟨h1, h2, h3, h4, h5, h6, h7, h8, h9⟩ := h
  exact ⟨h1.ext hx, h2.ext hx, h3.ext hx, h4.ext hx, h5.ext hx, h6.ext hx, fun k hk => (h7 k hk).ext hx, fun k hk => (h8 k hk).ext hx, h9⟩
end SW
/-- how many outlets; an outlet's place if it is one; a script's cell; what an outlet needs -/
def U_n (su : SU) : Int32 := Int32.ofNat (su.1 7)
def U_at (su : SU) (k : Int32) : Option Nat := if k < 0 ∨ su.1 7 ≤ k.toNatClampNeg then none else some k.toNatClampNeg
abbrev U_o (su : SU) (i f : Nat) : Int32 := su.2.2.2.2.1 i f
abbrev U_need (su : SU) (k : Int32) : Option Int32 := rdF 12 su.2.2.2.2.2.2.1 k
abbrev U_scr (sc : SC) (k : Int32) : Option Int32 := rdF sc.2.1 sc.2.2 k
theorem U_at_e {su : SU} {k : Int32} {i : Nat} (h : U_at su k = some i) : ¬ k < 0 ∧ i < su.1 7 ∧ k.toNatClampNeg = i := by
  unfold U_at at h
  split at h
  next => cases h
  next hn =>
    cases h
    exact ⟨fun q => hn (Or.inl q), Nat.not_le.mp fun q => hn (Or.inr q), rfl⟩
theorem j_get_of {a mod_ ar cap : Nat} {md : Int32} {n : Nat} {f : Nat → Option Nat} {k : Int32} {i : Nat} (h0 : ¬ k < 0) (hi : k.toNatClampNeg = i) (hn : i < n) (hc : n ≤ cap) (hN : n < 2 ^ 31) : j_J2_get a k md ar (Int32.ofNat n) cap f = some (f i) := by
  have hk : k = nI i := by
    obtain ⟨j, hj, rfl⟩ := nI_of h0
    rw [nI_clamp hj] at hi
    rw [hi]
  have h1 : k < Int32.ofNat n := by rw [hk]; exact nI_lt hn hN
  have h2 : rdF cap f k = some (f i) := by
    unfold rdF
    rw [if_neg (by rw [hi]; simp only [not_or]; exact ⟨h0, by omega⟩), hi]
  unfold j_J2_get j_J17_checkIndex j_J14_checkIndex j_J2_elementData
  rw [if_neg h0, if_pos h1, h2]
  rfl
