/-! WHAT IS NEW IN THE STATE's WORLD: an Order, an iterator: G0 grows -/
/-- G1 holds all that G0 holds -/
def gx (G0 G1 : GH) : Prop := ∀ a e, G0 a = some e → G1 a = some e
theorem gx_rfl {G : GH} : gx G G := fun _ _ h => h
theorem gx.tr {A B C : GH} (h : gx A B) (h2 : gx B C) : gx A C := fun a e q => h2 a e (h a e q)
abbrev OS : Type := (Nat → Int32) × Int32
def oG (dA : Nat → ClassId) (c : Nat) (ρ : OS) (G0 : GH) : GH := gU (gU G0 c (.inr (3, [.ref (c + 1), .int ρ.2]))) (c + 1) (.inl (dA 0, 12, .inl ρ.1))
def iG (c : Nat) (cur last md : Int32) (li : Nat) (G0 : GH) : GH := gU G0 c (.inr (14, [.int cur, .int last, .int md, .ref li]))
def o_add (ρ : OS) (x : Int32) : Option OS := ob2 (j_X4_add 0 x 0 ρ.2 ρ.1) fun mn rw => some (rw, mn)
def D_has (su : SU) (cur : Int32) : Int32 := if cur = Int32.ofNat (su.1 8) then 0 else 1
def D_next (su : SU) (cur : Int32) : Option Nat := if cur < 0 ∨ su.1 8 ≤ cur.toNatClampNeg then none else some cur.toNatClampNeg
/-- free from n on -/
def gF (b d : Nat) (G0 : GH) (n : Nat) : Prop := b + d + 17 < n ∧ ∀ a, n ≤ a → G0 a = none
theorem gx_oG {dA : Nat → ClassId} {b d c : Nat} {G0 : GH} (h : gF b d G0 c) (ρ : OS) : gx G0 (oG dA c ρ G0) := by
  intro a e q
  unfold oG
  have h1 : a ≠ c := fun z => by rw [z, h.2 c (Nat.le_refl _)] at q; cases q
  have h2 : a ≠ c + 1 := fun z => by rw [z, h.2 (c + 1) (Nat.le_succ _)] at q; cases q
  rw [gU_n h2, gU_n h1]
  exact q
theorem gx_iG {b d c li : Nat} {cur last md : Int32} {G0 : GH} (h : gF b d G0 c) : gx G0 (iG c cur last md li G0) := by
  intro a e q
  unfold iG
  have h1 : a ≠ c := fun z => by rw [z, h.2 c (Nat.le_refl _)] at q; cases q
  rw [gU_n h1]
  exact q
theorem oG_0 {dA : Nat → ClassId} {b d c : Nat} {ρ : OS} {G0 : GH} (h : gF b d G0 c) : suAt b d (oG dA c ρ G0) c (.inr (3, [.ref (c + 1), .int ρ.2])) := by
  refine ⟨?_, gO_hi h.1⟩
  unfold oG
  rw [gU_n (by omega), gU_s]
theorem oG_1 {dA : Nat → ClassId} {b d c : Nat} {ρ : OS} {G0 : GH} (h : gF b d G0 c) : suAt b d (oG dA c ρ G0) (c + 1) (.inl (dA 0, 12, .inl ρ.1)) := ⟨gU_s, gO_hi (Nat.lt_succ_of_lt h.1)⟩
theorem iG_0 {b d c li : Nat} {cur last md : Int32} {G0 : GH} (h : gF b d G0 c) : suAt b d (iG c cur last md li G0) c (.inr (14, [.int cur, .int last, .int md, .ref li])) := ⟨gU_s, gO_hi h.1⟩
theorem sG_gU {dA : Nat → ClassId} {b d u : Nat} {sc : SC} {σ : SS} {G0 : GH} {a : Nat} {x : va_E} (h : b + d + 17 < a) : gU (sG dA b d u sc σ G0) a x = sG dA b d u sc σ (gU G0 a x) := by
  funext q
  by_cases hq : q = a
  · subst hq
    rw [gU_s, sG_out (gO_hi h), gU_s]
  · rw [gU_n hq]
    unfold sG
    by_cases h0 : q = b
    · rw [if_pos h0, if_pos h0]
    · rw [if_neg h0, if_neg h0]
      by_cases h1 : b + d < q ∧ q ≤ b + d + 17
      · rw [if_pos h1, if_pos h1]
      · rw [if_neg h1, if_neg h1, gU_n hq]
theorem oG_ov {dA : Nat → ClassId} {c : Nat} {ρ : OS} {G0 : GH} {mn : Int32} {rw_ : Nat → Int32} : gU (gU (oG dA c ρ G0) c (.inr (3, [.ref (c + 1), .int mn]))) (c + 1) (.inl (dA 0, 12, .inl rw_)) = oG dA c (rw_, mn) G0 := by
  unfold oG
  rw [gU_sw (a := c) (b := c + 1) (by omega), gU_ov, gU_ov]
section AL
variable {p : Program} {l : Launch} {e : Env} {R : Room} {s : State} {m : MethodId} {args : Array Value} {below : List Frame} {meth : Method} {c : Code} {H : Heap} {locs : List Loc} {cells slots : Nat} {Q : State → Prop}
variable {cc : ByteArray} {pc : Nat} {ls : Array Slot} {rest : List Value} {A : Nat → Prop} {L0 n nL : Nat} {g : gNum} {own : String} {rm : Room} {γ : Type} {o : γ} {lv : List (Nat × Value)}
variable {b d u c0 : Nat} {sc : SC} {su : SU} {σ : SS} {G0 G : GH} {i : Int32} {index : Nat}
theorem gF_of {D : va_G} {cl : List vw_C} {H0 : Heap} {dA : Nat → ClassId} (hG : gJ D cl L0 A H0 (sG dA b d u sc σ G0) n H locs) : gF b d G0 n := by
  have h1 : b + d + 17 < n := hG.lt (sG_at (j := 17) (by decide))
  refine ⟨h1, fun a ha => ?_⟩
  cases hg : G0 a with
  | none => rfl
  | some e =>
    have h2 : sG dA b d u sc σ G0 a = some e := by rw [sG_out (gO_hi (by omega))]; exact hg
    exact absurd (hG.lt h2) (by omega)
theorem hfA {R rm : Room} {mc ms : Nat} (h : R = rm) (hc : cells + mc ≤ rm.cells ∧ slots + ms ≤ rm.slots) : cells + mc ≤ R.cells ∧ slots + ms ≤ R.slots := by
  rw [h]
  exact hc
/-- new Order; dup; <init> -/
theorem ks_newo {i1 : Nat} {host : String} (hq1 : (Cond.classLink own i1 RX4) ∈ lw_all) (hq : (Cond.methodLinkNest own index yX4_init host) ∈ lw_tbl) (hF : gXK p m c cc nL s args own g A R rm) (hL0 : L0 ≤ b) (hG : gJK g L0 A s.heap (sG g.2.1 b d u sc σ G0) n H locs) (hl : lv_has ls nL lv) (r1 : 1 + 1 ≤ rm.frames) (r2 : 8 + (1 + 11) + 12 ≤ rm.locals) (hc : cells + 2 ≤ rm.cells ∧ slots + 14 ≤ rm.slots) (hW : (rest.map fun v => v.category).sum ≤ 7) (hdg1 : decode cc pc = .ok (.new i1, 3)) (hdg2 : decode cc (pc + 3) = .ok (.dup, 1)) (hdg3 : decode cc (pc + 3 + 1) = .ok (.invokespecial index, 3))
    (kk : ∀ (H1 : Heap) (locs1 : List Loc), gF b d G0 n → gJK g L0 A s.heap (sG g.2.1 b d u sc σ (oG g.2.1 n (fun _ => 0, 0) G0)) (n + 1 + 1) H1 locs1 → W p l e R s m args below meth c H1 locs1 (cells + 1 + 1) (slots + 2 + 12) Q (F0 m (pc + 3 + 1 + 3) ls (.ref n :: rest))) : W p l e R s m args below meth c H locs cells slots Q (F0 m pc ls rest) := by
  have hf := gF_of hG
  have hlt := hf.1
  refine g_new hF hG in_X4 tyX4 tyX4_ok hq1 q544 q104 (ci := 3) rfl (fs := [Value.null, .int 0]) (by decide) (by rw [hF.2.2.2.2]; exact Nat.le_trans (by omega) hc.1) (by rw [hF.2.2.2.2]; exact Nat.le_trans (by omega) hc.2) hdg1 (fun H hG => ?_)
  refine lv_dup hF.1.1 hF.1.2.1 hdg2 rfl ?_
  refine g_callIN hF hG hl (w_X4_init (g := g) (l := l) (L0 := L0) (a := n) (many := 0) gU_s (by omega) (by omega) rfl) ⟨va_cnB 0 hF.1.2.2.2.2 (lw_meth q547) rfl rfl rfl (hF.nw hq rfl) (hF.1.2.2.2.2 _ q104) (by decide +kernel) (g_room hF r1 r2), rfl, hF.1.2.2.2.2 _ q546⟩ (As := []) rfl rfl (by simp only [List.map, List.sum_cons]; show 1 + _ ≤ 8; omega) hdg3 (hfA hF.2.2.2.2 ⟨by have := hc.1; omega, by have := hc.2; omega⟩) (fun v G1 n1 H1 locs1 hR hG1 => ?_)
  obtain ⟨rfl, h2, h3⟩ := hR
  rw [h2, h3, gU_ov, sG_gU hf.1, sG_gU (Nat.lt_succ_of_lt hf.1)] at hG1
  exact kk H1 locs1 hf hG1
/-- Order.add on an order of one's own -/
theorem ks_addo (hq : (Cond.methodLink own index yX4_add) ∈ lw_all) (hF : gXK p m c cc nL s args own g A R rm) (hL0 : L0 ≤ b) {ρ : OS} (hf : gF b d G0 c0) (hG : gJK g L0 A s.heap (sG g.2.1 b d u sc σ (oG g.2.1 c0 ρ G0)) n H locs) (hl : lv_has ls nL lv) (r1 : 1 + 1 ≤ rm.frames) (r2 : 8 + (2 + 11) + 22 ≤ rm.locals) {x : Int32} {f : OS → Option γ} (h : ob1 (o_add ρ x) f = some o) (hc : cells ≤ rm.cells ∧ slots ≤ rm.slots) (hW : (rest.map fun v => v.category).sum ≤ 8) (hdg : decode cc pc = .ok (.invokevirtual index, 3))
    (kk : ∀ (ρ' : OS) (H1 : Heap) (locs1 : List Loc), f ρ' = some o → gJK g L0 A s.heap (sG g.2.1 b d u sc σ (oG g.2.1 c0 ρ' G0)) n H1 locs1 → W p l e R s m args below meth c H1 locs1 cells slots Q (F0 m (pc + 3) ls rest)) : W p l e R s m args below meth c H locs cells slots Q (F0 m pc ls (.int x :: .ref c0 :: rest)) := by
  obtain ⟨ρ', hv, h⟩ := ob1_e h
  unfold o_add at hv
  obtain ⟨mn, r, hv1, hv2⟩ := ob2_e hv
  cases hv2
  have hlt := hf.1
  refine g_callV hF hG hl (oG_0 hf).rd (C := RX4) (T := TX4) (N := 2) rfl (w_X4_add (g := g) (l := l) (L0 := L0) (sz := n) (a := c0) (ra := c0 + 1) (x := x) (oG_0 hf).rd (oG_1 hf).rd (by omega) (by omega) (out := (mn, r)) hv1) (cwV 1 hF.1.2.2.2.2 (lw_V hq q833 q834 q104 q835) rfl rfl rfl (by decide +kernel) (g_room hF r1 r2)) rfl rfl hW hdg (hf0 hF.2.2.2.2 hc) (fun v G1 n1 H1 locs1 hR hG1 => ?_)
  obtain ⟨rfl, h2, h3⟩ := hR
  rw [h2, h3, sG_gU hf.1, sG_gU (Nat.lt_succ_of_lt hf.1), oG_ov] at hG1
  exact kk _ H1 locs1 h hG1
/-- an iterator over the darks -/
theorem ks_iter (hq : (Cond.methodLink own index (mList "iterator" "()Ljava/util/Iterator;")) ∈ lw_all) {cnt : Nat} (hF : gXK p m c cc nL s args own g A R rm) (hL0 : L0 ≤ b) (hsu : suOK g.2.1 su b d G0) (hG : gJK g L0 A s.heap (sG g.2.1 b d u sc σ G0) n H locs) (hl : lv_has ls nL lv) (r1 : 2 + 1 ≤ rm.frames) (r2 : 8 + (1 + 11) + 33 ≤ rm.locals) (hc : cells + 1 ≤ rm.cells ∧ slots + 4 ≤ rm.slots) (hW : (rest.map fun v => v.category).sum ≤ 8) (hdg : decode cc pc = .ok (.invokeinterface index cnt, 5))
    (kk : ∀ (H1 : Heap) (locs1 : List Loc), gF b d G0 n → gJK g L0 A s.heap (sG g.2.1 b d u sc σ (iG n 0 (-1) (su.2.1 11) (su.1 2) G0)) (n + 1) H1 locs1 → W p l e R s m args below meth c H1 locs1 (cells + 1) (slots + 4) Q (F0 m (pc + 5) ls (.ref n :: rest))) : W p l e R s m args below meth c H locs cells slots Q (F0 m pc ls (.ref (su.1 2) :: rest)) := by
  have hf := gF_of hG
  have hlt := hf.1
  refine g_callF hF hG hl hsu.2.2.1.rd (C := RJ2) (T := TJ2) (N := 3) rfl (w_J2_iterator (g := g) (l := l) (L0 := L0) (sz := n) hsu.2.2.1.rd (by omega) rfl) (va_cwF 0 hF.1.2.2.2.2 (lw_F hq q1600 q1602 q87 q1604) rfl rfl rfl (g_fw hF 3 rfl) (by decide +kernel) (g_room hF r1 r2)) rfl rfl hW hdg (hfA hF.2.2.2.2 hc) (fun v G1 n1 H1 locs1 hR hG1 => ?_)
  obtain ⟨rfl, h3, h4⟩ := hR
  rw [h3, h4, sG_gU hf.1] at hG1
  exact kk H1 locs1 hf hG1
theorem ks_hasNext (hq : (Cond.methodLink own index (mIter "hasNext" "()Z")) ∈ lw_all) {cnt : Nat} (hF : gXK p m c cc nL s args own g A R rm) {cur last : Int32} (hsu : suOK g.2.1 su b d (iG c0 cur last (su.2.1 11) (su.1 2) G0)) (hf : gF b d G0 c0) (hG : gJK g L0 A s.heap (sG g.2.1 b d u sc σ (iG c0 cur last (su.2.1 11) (su.1 2) G0)) n H locs) (hl : lv_has ls nL lv) (r1 : 0 + 1 ≤ rm.frames) (r2 : 8 + (1 + 11) + 0 ≤ rm.locals) (hc : cells ≤ rm.cells ∧ slots ≤ rm.slots) (hW : (rest.map fun v => v.category).sum ≤ 8) (hdg : decode cc pc = .ok (.invokeinterface index cnt, 5))
    (kk : ∀ (H1 : Heap) (locs1 : List Loc), gJK g L0 A s.heap (sG g.2.1 b d u sc σ (iG c0 cur last (su.2.1 11) (su.1 2) G0)) n H1 locs1 → W p l e R s m args below meth c H1 locs1 cells slots Q (F0 m (pc + 5) ls (.int (D_has su cur) :: rest))) : W p l e R s m args below meth c H locs cells slots Q (F0 m pc ls (.ref c0 :: rest)) := by
  have hout : j_J24_hasNext c0 cur last (su.2.1 11) (su.1 2) (su.2.1 11) (su.1 6) (Int32.ofNat (su.1 8)) = some (D_has su cur) := by
    unfold j_J24_hasNext D_has
    split <;> rfl
  refine g_callF hF hG hl (iG_0 hf).rd (C := RJ24) (T := TJ24) (N := 4) rfl (w_J24_hasNext (g := g) (l := l) (L0 := L0) (sz := n) (iG_0 hf).rd hsu.2.2.1.rd hout) (va_cwF 0 hF.1.2.2.2.2 (lw_F hq q1629 q1631 q121 q1633) rfl rfl rfl (g_fw hF 4 rfl) (by decide +kernel) (g_room hF r1 r2)) rfl rfl hW hdg (hf0 hF.2.2.2.2 hc) (fun v G1 n1 H1 locs1 hR hG1 => ?_)
  obtain ⟨rfl, h3, h4⟩ := hR
  rw [h3, h4] at hG1
  exact kk H1 locs1 hG1
theorem ks_next (hq : (Cond.methodLink own index (mIter "next" "()Ljava/lang/Object;")) ∈ lw_all) {i2 : Nat} (hq2 : (Cond.classLink own i2 RX12) ∈ lw_all) {cnt : Nat} (hF : gXK p m c cc nL s args own g A R rm) (hL0 : L0 ≤ b) {cur last : Int32} (hsu : ∀ cur last, suOK g.2.1 su b d (iG c0 cur last (su.2.1 11) (su.1 2) G0)) (hf : gF b d G0 c0) (hG : gJK g L0 A s.heap (sG g.2.1 b d u sc σ (iG c0 cur last (su.2.1 11) (su.1 2) G0)) n H locs) (hl : lv_has ls nL lv) (r1 : 1 + 1 ≤ rm.frames) (r2 : 8 + (3 + 11) + 20 ≤ rm.locals) {f : Nat → Option γ} (h : ob1 (D_next su cur) f = some o) (hc : cells ≤ rm.cells ∧ slots ≤ rm.slots) (hW : (rest.map fun v => v.category).sum ≤ 8) (hdg : decode cc pc = .ok (.invokeinterface index cnt, 5)) (hdg2 : decode cc (pc + 5) = .ok (.checkcast i2, 3))
    (kk : ∀ (k : Nat) (H1 : Heap) (locs1 : List Loc), k < su.1 8 → f k = some o → gJK g L0 A s.heap (sG g.2.1 b d u sc σ (iG c0 (cur + 1) cur (su.2.1 11) (su.1 2) G0)) n H1 locs1 → W p l e R s m args below meth c H1 locs1 cells slots Q (F0 m (pc + 5 + 3) ls (.ref (su.2.2.2.1 k) :: rest))) : W p l e R s m args below meth c H locs cells slots Q (F0 m pc ls (.ref c0 :: rest)) := by
  obtain ⟨k, hk, h⟩ := ob1_e h
  unfold D_next at hk
  split at hk
  next => cases hk
  next hn =>
  cases hk
  have h0 : ¬ cur < 0 := fun q => hn (Or.inl q)
  have h1 : cur.toNatClampNeg < su.1 8 := Nat.not_le.mp fun q => hn (Or.inr q)
  have hS := hsu cur last
  have hlt := hf.1
  have e10 := hS.2.2.2.2.2.2.2.2.2.1
  have e13 := hS.2.2.2.2.2.2.2.2.2.2.2.2
  have hcur : cur = nI cur.toNatClampNeg := by
    obtain ⟨j, hj, rfl⟩ := nI_of h0
    rw [nI_clamp hj]
  have hout : j_J24_next c0 cur last (su.2.1 11) (su.1 2) (su.2.1 11) (su.1 6) (Int32.ofNat (su.1 8)) (su.1 10) (suF (su.1 8) su.2.2.2.1) = some (some (su.2.2.2.1 cur.toNatClampNeg), cur + 1, cur) := by
    have k1 : cur < Int32.ofNat (su.1 8) := by rw [hcur]; exact nI_lt h1 (by omega)
    have k2 : cur < Int32.ofNat (su.1 10) := by rw [hcur]; exact nI_lt (by omega) (by omega)
    have k3 : rdF (su.1 10) (suF (su.1 8) su.2.2.2.1) cur = some (some (su.2.2.2.1 cur.toNatClampNeg)) := by
      unfold rdF suF
      rw [if_neg (by simp only [not_or]; exact ⟨h0, by omega⟩), if_pos h1]
    unfold j_J24_next j_J24_checkForComodification
    rw [if_pos rfl, if_pos k1, if_pos k2, k3]
    rfl
  refine g_callF hF hG hl (iG_0 hf).rd (C := RJ24) (T := TJ24) (N := 4) rfl (w_J24_next (g := g) (l := l) (L0 := L0) (sz := n) (iG_0 hf).rd hS.2.2.1.rd hS.2.2.2.2.2.1.rd (by omega) hout) (va_cwF 0 hF.1.2.2.2.2 (lw_F hq q1638 q1640 q121 q1642) rfl rfl rfl (g_fw hF 5 rfl) (by decide +kernel) (g_room hF r1 r2)) rfl rfl hW hdg (hf0 hF.2.2.2.2 hc) (fun v G1 n1 H1 locs1 hR hG1 => ?_)
  obtain ⟨rfl, h3, h4⟩ := hR
  rw [h3, h4, sG_gU hf.1, show gU (iG c0 cur last (su.2.1 11) (su.1 2) G0) c0 (.inr (14, [.int (cur + 1), .int cur, .int (su.2.1 11), .ref (su.1 2)])) = iG c0 (cur + 1) cur (su.2.1 11) (su.1 2) G0 from gU_ov] at hG1
  exact g_castS hF hG1 ((hsu (cur + 1) cur).2.2.2.2.2.2.2.1 _ h1).rd (q := (RX12, TX12, 2)) rfl hq2 hdg2 (kk _ H1 locs1 h1 h hG1)
end AL
