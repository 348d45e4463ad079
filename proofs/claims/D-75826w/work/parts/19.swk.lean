/-! calls out of the State's world into small classes: the setup, its outlets and darks, the orders, the wire's sums -/
abbrev wNo (P : Prop) : Prop := P
section SWK
variable {p : Program} {l : Launch} {e : Env} {R : Room} {s : State} {m : MethodId} {args : Array Value} {below : List Frame} {meth : Method} {c : Code} {H : Heap} {locs : List Loc} {cells slots : Nat} {Q : State → Prop}
variable {cc : ByteArray} {pc : Nat} {ls : Array Slot} {rest : List Value} {A : Nat → Prop} {L0 n nL : Nat} {g : gNum} {own : String} {rm : Room} {γ : Type} {o : γ} {lv : List (Nat × Value)}
variable {b d : Nat} {sc : SC} {su : SU} {σ : SS} {G0 G : GH} {i : Int32} {index : Nat}
theorem hf0 {R rm : Room} (h : R = rm) (hc : cells ≤ rm.cells ∧ slots ≤ rm.slots) : cells + 0 ≤ R.cells ∧ slots + 0 ≤ R.slots := by
  rw [h]
  exact hc
/-- a setup's facts in any world -/
def suOKG (dA : Nat → ClassId) (su : SU) (G : GH) : Prop :=
  G (su.1 0) = some (.inr (2, suV su)) ∧ G (su.1 1) = some (.inr (12, [.int (su.2.1 10), .ref (su.1 5), .int (Int32.ofNat (su.1 7))])) ∧ G (su.1 2) = some (.inr (12, [.int (su.2.1 11), .ref (su.1 6), .int (Int32.ofNat (su.1 8))])) ∧ G (su.1 3) = some (.inl (dA 0, 12, .inl su.2.2.2.2.2.2.1)) ∧ G (su.1 5) = some (.inl (dA 4, su.1 9, .inr (.inr (.inr (.inr (suF (su.1 7) su.2.2.1)))))) ∧ G (su.1 6) = some (.inl (dA 4, su.1 10, .inr (.inr (.inr (.inr (suF (su.1 8) su.2.2.2.1)))))) ∧ (∀ k, k < su.1 7 → G (su.2.2.1 k) = some (.inr (9, suO su k))) ∧ (∀ k, k < su.1 8 → G (su.2.2.2.1 k) = some (.inr (10, suD su k))) ∧ su.1 7 ≤ su.1 9 ∧ su.1 8 ≤ su.1 10 ∧ su.1 7 ≤ 12 ∧ su.1 8 ≤ 4 ∧ su.1 10 ≤ 64
theorem su_of {u : Nat} (h : suOK g.2.1 su b d G0) : suOKG g.2.1 su (sG g.2.1 b d u sc σ G0) := by
  obtain ⟨h1, h2, h3, h4, h5, h6, h7, h8, h9⟩ := h
  exact ⟨h1.rd, h2.rd, h3.rd, h4.rd, h5.rd, h6.rd, fun k hk => (h7 k hk).rd, fun k hk => (h8 k hk).rd, h9⟩
theorem ks_size (hq : (Cond.methodLink own index yX3_size) ∈ lw_all) (hF : gXK p m c cc nL s args own g A R rm) (hsu : suOKG g.2.1 su G) (hG : gJK g L0 A s.heap G n H locs) (hl : lv_has ls nL lv) (r1 : 1 + 1 ≤ rm.frames) (r2 : 8 + (1 + 11) + 20 ≤ rm.locals) (hc : cells ≤ rm.cells ∧ slots ≤ rm.slots) (hW : (rest.map fun v => v.category).sum ≤ 8) (hdg : decode cc pc = .ok (.invokevirtual index, 3))
    (kk : ∀ (H1 : Heap) (locs1 : List Loc), gJK g L0 A s.heap G n H1 locs1 → W p l e R s m args below meth c H1 locs1 cells slots Q (F0 m (pc + 3) ls (.int (U_n su) :: rest))) : W p l e R s m args below meth c H locs cells slots Q (F0 m pc ls (.ref (su.1 0) :: rest)) := by
  refine g_callV hF hG hl hsu.1 (C := RX3) (T := TX3) (N := 10) rfl (w_X3_size (g := g) (l := l) (L0 := L0) (G := G) (sz := n) (u := su.1 0) (uo := su.1 1) (ud := su.1 2) (un := su.1 3) (us := su.1 4) (ar := su.1 5) (k := Int32.ofNat (su.1 7)) (out := U_n su) hsu.1 hsu.2.1 rfl) (cwV 0 hF.1.2.2.2.2 (lw_V hq q694 q695 q84 q696) rfl rfl rfl (by decide +kernel) (g_room hF r1 r2)) rfl rfl hW hdg (hf0 hF.2.2.2.2 hc) (fun v G1 n1 H1 locs1 hR hG1 => ?_)
  obtain ⟨rfl, h2, h3⟩ := hR
  rw [h2, h3] at hG1
  exact kk H1 locs1 hG1
/-- the k-th outlet of the list, cast -/
theorem ks_get (hq : (Cond.methodLink own index (mList "get" "(I)Ljava/lang/Object;")) ∈ lw_all) {i2 : Nat} (hq2 : (Cond.classLink own i2 RX11) ∈ lw_all) {cnt : Nat} (hF : gXK p m c cc nL s args own g A R rm) (hsu : suOKG g.2.1 su G) (hG : gJK g L0 A s.heap G n H locs) (hl : lv_has ls nL lv) (r1 : 2 + 1 ≤ rm.frames) (r2 : 8 + (2 + 11) + 43 ≤ rm.locals) {k : Int32} {f : Nat → Option γ} (h : ob1 (U_at su k) f = some o) (hc : cells ≤ rm.cells ∧ slots ≤ rm.slots) (hW : (rest.map fun v => v.category).sum ≤ 8) (hdg : decode cc pc = .ok (.invokeinterface index cnt, 5)) (hdg2 : decode cc (pc + 5) = .ok (.checkcast i2, 3))
    (kk : ∀ (i : Nat) (H1 : Heap) (locs1 : List Loc), i < su.1 7 → f i = some o → gJK g L0 A s.heap G n H1 locs1 → W p l e R s m args below meth c H1 locs1 cells slots Q (F0 m (pc + 5 + 3) ls (.ref (su.2.2.1 i) :: rest))) : W p l e R s m args below meth c H locs cells slots Q (F0 m pc ls (.int k :: .ref (su.1 1) :: rest)) := by
  obtain ⟨i, hi, h⟩ := ob1_e h
  obtain ⟨h0, h1, h2⟩ := U_at_e hi
  obtain ⟨e1, e2, e3, e4, e5, e6, e7, e8, e9, e10, e11, e12⟩ := hsu
  have hout : j_J2_get (su.1 1) k (su.2.1 10) (su.1 5) (Int32.ofNat (su.1 7)) (su.1 9) (suF (su.1 7) su.2.2.1) = some (some (su.2.2.1 i)) := by
    rw [j_get_of (mod_ := 0) h0 h2 h1 e9 (by omega)]
    unfold suF
    rw [if_pos h1]
  refine g_callF hF hG hl e2 (C := RJ2) (T := TJ2) (N := 3) rfl (w_J2_get (g := g) (l := l) (L0 := L0) (G := G) (sz := n) e2 e5 hout) (va_cwF 1 hF.1.2.2.2.2 (lw_F hq q714 q716 q87 q718) rfl rfl rfl (g_fw hF 1 rfl) (by decide +kernel) (g_room hF r1 r2)) rfl rfl hW hdg (hf0 hF.2.2.2.2 hc) (fun v G1 n1 H1 locs1 hR hG1 => ?_)
  obtain ⟨rfl, h3, h4⟩ := hR
  rw [h3, h4] at hG1
  exact g_castS hF hG1 (e7 i h1) (q := (RX11, TX11, 6)) rfl hq2 hdg2 (kk i H1 locs1 h1 h hG1)
/-- an outlet's number -/
theorem ks_out {host : String} (hF : gXK p m c cc nL s args own g A R rm) (hsu : suOKG g.2.1 su G) (hG : gJK g L0 A s.heap G n H locs) {i : Nat} (hi : i < su.1 7) (k : Nat) (hk : 1 ≤ k ∧ k ≤ 5) (hcl : (TX11 k).1 = RX11) (hlink : (Cond.fieldLinkNest own index RX11 (TX11 k).2.1 (TX11 k).2.2.1 host) ∈ lw_tbl) (hdg : decode cc pc = .ok (.getfield index, 3))
    (kk : W p l e R s m args below meth c H locs cells slots Q (F0 m (pc + 3) ls (.int (U_o su i k) :: rest))) : W p l e R s m args below meth c H locs cells slots Q (F0 m pc ls (.ref (su.2.2.1 i) :: rest)) := by
  refine g_getN hF hG (hsu.2.2.2.2.2.2.1 i hi) (C := RX11) (T := TX11) (N := 6) rfl in_X11 k (by omega) hlink (fun x h => by rw [hcl] at h; exact h) (v := .int (U_o su i k)) ?_ hdg kk
  have : k = 1 ∨ k = 2 ∨ k = 3 ∨ k = 4 ∨ k = 5 := by omega
  rcases this with rfl | rfl | rfl | rfl | rfl <;> rfl
theorem ks_need (hF : gXK p m c cc nL s args own g A R rm) (hsu : suOKG g.2.1 su G) (hG : gJK g L0 A s.heap G n H locs) {f : Int32 → Option γ} (h : ob1 (U_need su i) f = some o) (hdg : decode cc pc = .ok (.iaload, 1))
    (kk : ∀ v : Int32, f v = some o → W p l e R s m args below meth c H locs cells slots Q (F0 m (pc + 1) ls (.int v :: rest))) : W p l e R s m args below meth c H locs cells slots Q (F0 m pc ls (.int i :: .ref (su.1 3) :: rest)) :=
  c_iald hF hG hsu.2.2.2.1 h hdg kk
/-- State.at(k) -/
theorem w_X2_at {sz : Nat} (hsu : suOK g.2.1 su b d G0) {k : Int32} {i : Nat} (h : U_at su k = some i) : gMet l yX2_at (ws_ yX2_at cX2_at 2 (some (.object "BlackoutStart$Outlet"))) g.1 clX L0 (gK g) [.ref b, .int k] (sG g.2.1 b d (su.1 0) sc σ G0) sz 3 64 0 0 (fun v G n => v = some (.ref (su.2.2.1 i)) ∧ G = sG g.2.1 b d (su.1 0) sc σ G0 ∧ n = sz) := by
  refine gMet.of (own := RX2) (gK_ok g) (by decide +kernel) (Nat.le_of_ble_eq_true rfl) rfl ?_
  intro p e R s m args below meth c A Q ls H hF hQ hin hG hl
  have hx := hF.1.1
  have hb := hF.1.2.1
  have hl : lv_has ls 2 [(0, .ref b), (1, .int k)] := hl
  refine lv_aload_n hx hb dX2_at_0 rfl (lv_at hl 0 rfl) ?_
  refine g_get hF hG sG_0 (C := RX2) (T := TX2) (N := 26) rfl in_X2 0 (by decide) q589 (fun _ h => h) (v := .ref (su.1 0)) rfl dX2_at_1 ?_
  refine g_getN hF hG hsu.1.rd (C := RX3) (T := TX3) (N := 10) rfl in_X3 0 (by decide) q489 (fun _ h => h) (v := .ref (su.1 1)) rfl dX2_at_4 ?_
  refine lv_iload_n hx hb dX2_at_7 rfl (lv_at hl 1 rfl) ?_
  refine ks_get (f := fun i => some i) q711 q729 hF (su_of hsu) hG hl (Nat.le_of_ble_eq_true rfl) (Nat.le_of_ble_eq_true rfl) (o := i) (by rw [h]; rfl) ⟨Nat.le_of_ble_eq_true rfl, Nat.le_of_ble_eq_true rfl⟩ (Nat.le_of_ble_eq_true rfl) dX2_at_8 dX2_at_13 (fun i2 H locs hi2 h hG => ?_)
  cases h
  exact g_aret hQ (Or.inl ⟨_, rfl⟩) hG (Or.inr ⟨_, rfl⟩) ⟨rfl, rfl, rfl⟩ (Nat.le_of_ble_eq_true rfl) (Nat.le_of_ble_eq_true rfl) dX2_at_16
theorem ks_at (hq : (Cond.methodLink own index yX2_at) ∈ lw_all) (hF : gXK p m c cc nL s args own g A R rm) (hsu : suOK g.2.1 su b d G0) (hG : gJK g L0 A s.heap (sG g.2.1 b d (su.1 0) sc σ G0) n H locs) (hl : lv_has ls nL lv) (r1 : 3 + 1 ≤ rm.frames) (r2 : 8 + (2 + 11) + 64 ≤ rm.locals) {k : Int32} {f : Nat → Option γ} (h : ob1 (U_at su k) f = some o) (hc : cells ≤ rm.cells ∧ slots ≤ rm.slots) (hW : (rest.map fun v => v.category).sum ≤ 8) (hdg : decode cc pc = .ok (.invokevirtual index, 3))
    (kk : ∀ (i : Nat) (H1 : Heap) (locs1 : List Loc), i < su.1 7 → f i = some o → gJK g L0 A s.heap (sG g.2.1 b d (su.1 0) sc σ G0) n H1 locs1 → W p l e R s m args below meth c H1 locs1 cells slots Q (F0 m (pc + 3) ls (.ref (su.2.2.1 i) :: rest))) : W p l e R s m args below meth c H locs cells slots Q (F0 m pc ls (.int k :: .ref b :: rest)) := by
  obtain ⟨i, hi, h⟩ := ob1_e h
  refine g_callV hF hG hl sG_0 (C := RX2) (T := TX2) (N := 26) rfl (w_X2_at hsu hi) (cwV 1 hF.1.2.2.2.2 (lw_V hq q789 q790 q83 q791) rfl rfl rfl (by decide +kernel) (g_room hF r1 r2)) rfl rfl hW hdg (hf0 hF.2.2.2.2 hc) (fun v G1 n1 H1 locs1 hR hG1 => ?_)
  obtain ⟨rfl, h2, h3⟩ := hR
  rw [h2, h3] at hG1
  exact kk i H1 locs1 (U_at_e hi).2.1 h hG1
/-- BlackoutStart.has, of a nest mate -/
theorem ks_hasN {host : String} (hq : (Cond.methodLinkNest own index yX1_has host) ∈ lw_tbl) (hF : gXK p m c cc nL s args own g A R rm) (hG : gJK g L0 A s.heap G n H locs) (hl : lv_has ls nL lv) (r1 : 0 + 1 ≤ rm.frames) (r2 : 8 + (2 + 11) + 0 ≤ rm.locals) {x y : Int32} {f : Int32 → Option γ} (h : ob1 (j_X1_has x y) f = some o) (hc : cells ≤ rm.cells ∧ slots ≤ rm.slots) (hW : (rest.map fun v => v.category).sum ≤ 8) (hdg : decode cc pc = .ok (.invokestatic index, 3))
    (kk : ∀ (v : Int32) (H1 : Heap) (locs1 : List Loc), f v = some o → gJK g L0 A s.heap G n H1 locs1 → W p l e R s m args below meth c H1 locs1 cells slots Q (F0 m (pc + 3) ls (.int v :: rest))) : W p l e R s m args below meth c H locs cells slots Q (F0 m pc ls (.int y :: .int x :: rest)) := by
  obtain ⟨v, hv, h⟩ := ob1_e h
  refine g_callSN hF hG hl (w_X1_has hv) ⟨va_cnB 2 hF.1.2.2.2.2 (lw_meth q709) rfl rfl rfl (hF.nw hq rfl) (hF.1.2.2.2.2 _ q82) (by decide +kernel) (g_room hF r1 r2), hF.1.2.2.2.2 _ q708, trivial⟩ rfl rfl hW hdg (hf0 hF.2.2.2.2 hc) (fun v G1 n1 H1 locs1 hR hG1 => ?_)
  obtain ⟨rfl, h2, h3⟩ := hR
  rw [h2, h3] at hG1
  exact kk _ H1 locs1 h hG1
/-- Wire.sum of one of the wire's arrays -/
theorem ks_sum (hq : (Cond.methodLink own index yX5_sum) ∈ lw_all) (hF : gXK p m c cc nL s args own g A R rm) {u : Nat} (hG : gJK g L0 A s.heap (sG g.2.1 b d u sc σ G0) n H locs) (hl : lv_has ls nL lv) (r1 : 0 + 1 ≤ rm.frames) (r2 : 8 + (6 + 11) + 0 ≤ rm.locals) {j : Nat} (hj : sI j) {f : Int32 → Option γ} (h : ob1 (j_X5_sum 0 (sL j) (σ.2 j)) f = some o) (hc : cells ≤ rm.cells ∧ slots ≤ rm.slots) (hW : (rest.map fun v => v.category).sum ≤ 8) (hdg : decode cc pc = .ok (.invokestatic index, 3))
    (kk : ∀ (v : Int32) (H1 : Heap) (locs1 : List Loc), f v = some o → gJK g L0 A s.heap (sG g.2.1 b d u sc σ G0) n H1 locs1 → W p l e R s m args below meth c H1 locs1 cells slots Q (F0 m (pc + 3) ls (.int v :: rest))) : W p l e R s m args below meth c H locs cells slots Q (F0 m pc ls (.ref (b + d + j) :: rest)) := by
  obtain ⟨v, hv, h⟩ := ob1_e h
  refine g_callS hF hG hl (w_X5_sum (g := g) (l := l) (L0 := L0) (sz := n) (ra := b + d + j) (sG_arr hj) (out := v) hv) (va_cwS 1 hF.1.2.2.2.2 (lw_S hq q1491 q105 q1492) rfl rfl rfl (by decide +kernel) (g_room hF r1 r2)) rfl rfl hW hdg (hf0 hF.2.2.2.2 hc) (fun v G1 n1 H1 locs1 hR hG1 => ?_)
  obtain ⟨rfl, h2, h3⟩ := hR
  rw [h2, h3] at hG1
  exact kk _ H1 locs1 h hG1
/-- Order.placeOf on learned -/
theorem ks_place9 (hq : (Cond.methodLink own index yX4_placeOf) ∈ lw_all) (hF : gXK p m c cc nL s args own g A R rm) {u : Nat} (hG : gJK g L0 A s.heap (sG g.2.1 b d u sc σ G0) n H locs) (hl : lv_has ls nL lv) (r1 : 0 + 1 ≤ rm.frames) (r2 : 8 + (3 + 11) + 0 ≤ rm.locals) {x : Int32} {f : Int32 → Option γ} (h : ob1 (j_X4_placeOf 0 x 0 (σ.1 30) (σ.2 10)) f = some o) (hc : cells ≤ rm.cells ∧ slots ≤ rm.slots) (hW : (rest.map fun v => v.category).sum ≤ 8) (hdg : decode cc pc = .ok (.invokevirtual index, 3))
    (kk : ∀ (v : Int32) (H1 : Heap) (locs1 : List Loc), f v = some o → gJK g L0 A s.heap (sG g.2.1 b d u sc σ G0) n H1 locs1 → W p l e R s m args below meth c H1 locs1 cells slots Q (F0 m (pc + 3) ls (.int v :: rest))) : W p l e R s m args below meth c H locs cells slots Q (F0 m pc ls (.int x :: .ref (b + d + 9) :: rest)) := by
  obtain ⟨v, hv, h⟩ := ob1_e h
  refine g_callV hF hG hl sG_9 (C := RX4) (T := TX4) (N := 2) rfl (w_X4_placeOf (g := g) (l := l) (L0 := L0) (sz := n) (a := b + d + 9) (ra := b + d + 10) (x := x) sG_9 (sG_arr (by decide)) (out := v) hv) (cwV 1 hF.1.2.2.2.2 (lw_V hq q829 q830 q104 q831) rfl rfl rfl (by decide +kernel) (g_room hF r1 r2)) rfl rfl hW hdg (hf0 hF.2.2.2.2 hc) (fun v G1 n1 H1 locs1 hR hG1 => ?_)
  obtain ⟨rfl, h2, h3⟩ := hR
  rw [h2, h3] at hG1
  exact kk _ H1 locs1 h hG1
/-- Order.add on present -/
theorem ks_add11 (hq : (Cond.methodLink own index yX4_add) ∈ lw_all) (hF : gXK p m c cc nL s args own g A R rm) (hL0 : L0 ≤ b) {u : Nat} (hG : gJK g L0 A s.heap (sG g.2.1 b d u sc σ G0) n H locs) (hl : lv_has ls nL lv) (r1 : 1 + 1 ≤ rm.frames) (r2 : 8 + (2 + 11) + 22 ≤ rm.locals) {x : Int32} {f : SS → Option γ} (h : ob2 (j_X4_add 0 x 0 (σ.1 31) (σ.2 12)) (fun mn r => nm (S_sf (S_sA σ 12 r) 31 mn) f) = some o) (hc : cells ≤ rm.cells ∧ slots ≤ rm.slots) (hW : (rest.map fun v => v.category).sum ≤ 8) (hdg : decode cc pc = .ok (.invokevirtual index, 3))
    (kk : ∀ (σ' : SS) (H1 : Heap) (locs1 : List Loc), f σ' = some o → gJK g L0 A s.heap (sG g.2.1 b d u sc σ' G0) n H1 locs1 → W p l e R s m args below meth c H1 locs1 cells slots Q (F0 m (pc + 3) ls rest)) : W p l e R s m args below meth c H locs cells slots Q (F0 m pc ls (.int x :: .ref (b + d + 11) :: rest)) := by
  obtain ⟨mn, r, hv, h⟩ := ob2_e h
  refine g_callV hF hG hl sG_11 (C := RX4) (T := TX4) (N := 2) rfl (w_X4_add (g := g) (l := l) (L0 := L0) (sz := n) (a := b + d + 11) (ra := b + d + 12) (x := x) sG_11 (sG_arr (by decide)) (by omega) (by omega) (out := (mn, r)) hv) (cwV 1 hF.1.2.2.2.2 (lw_V hq q833 q834 q104 q835) rfl rfl rfl (by decide +kernel) (g_room hF r1 r2)) rfl rfl hW hdg (hf0 hF.2.2.2.2 hc) (fun v G1 n1 H1 locs1 hR hG1 => ?_)
  obtain ⟨rfl, h2, h3⟩ := hR
  rw [h2, h3] at hG1
  rw [gU_sw (by omega), show gU (sG g.2.1 b d u sc σ G0) (b + d + 12) (.inl (g.2.1 0, 12, .inl r)) = sG g.2.1 b d u sc (S_sA σ 12 r) G0 from sG_sA (by decide), show gU (sG g.2.1 b d u sc (S_sA σ 12 r) G0) (b + d + 11) (.inr (3, [.ref (b + d + 12), .int mn])) = sG g.2.1 b d u sc (S_sf (S_sA σ 12 r) 31 mn) G0 from sG_sf11] at hG1
  exact kk _ H1 locs1 h hG1
/-- Dark's numbers -/
theorem ks_dtick (hq : (Cond.methodLink own index yX12_tick) ∈ lw_all) (hF : gXK p m c cc nL s args own g A R rm) (hsu : suOKG g.2.1 su G) (hG : gJK g L0 A s.heap G n H locs) (hl : lv_has ls nL lv) (r1 : 0 + 1 ≤ rm.frames) (r2 : 8 + (1 + 11) + 0 ≤ rm.locals) {k : Nat} (hk : k < su.1 8) (hc : cells ≤ rm.cells ∧ slots ≤ rm.slots) (hW : (rest.map fun v => v.category).sum ≤ 8) (hdg : decode cc pc = .ok (.invokevirtual index, 3))
    (kk : ∀ (H1 : Heap) (locs1 : List Loc), gJK g L0 A s.heap G n H1 locs1 → W p l e R s m args below meth c H1 locs1 cells slots Q (F0 m (pc + 3) ls (.int (su.2.2.2.2.2.1 k 0) :: rest))) : W p l e R s m args below meth c H locs cells slots Q (F0 m pc ls (.ref (su.2.2.2.1 k) :: rest)) := by
  refine g_callV hF hG hl (hsu.2.2.2.2.2.2.2.1 k hk) (C := RX12) (T := TX12) (N := 2) rfl (w_X12_tick (g := g) (l := l) (L0 := L0) (G := G) (sz := n) (a := su.2.2.2.1 k) (t := su.2.2.2.2.2.1 k 0) (d := su.2.2.2.2.2.1 k 1) (hsu.2.2.2.2.2.2.2.1 k hk) (out := su.2.2.2.2.2.1 k 0) rfl) (cwV 0 hF.1.2.2.2.2 (lw_V hq q1651 q1652 q118 q1653) rfl rfl rfl (by decide +kernel) (g_room hF r1 r2)) rfl rfl hW hdg (hf0 hF.2.2.2.2 hc) (fun v G1 n1 H1 locs1 hR hG1 => ?_)
  obtain ⟨rfl, h2, h3⟩ := hR
  rw [h2, h3] at hG1
  exact kk H1 locs1 hG1
theorem ks_ddur (hq : (Cond.methodLink own index yX12_duration) ∈ lw_all) (hF : gXK p m c cc nL s args own g A R rm) (hsu : suOKG g.2.1 su G) (hG : gJK g L0 A s.heap G n H locs) (hl : lv_has ls nL lv) (r1 : 0 + 1 ≤ rm.frames) (r2 : 8 + (1 + 11) + 0 ≤ rm.locals) {k : Nat} (hk : k < su.1 8) (hc : cells ≤ rm.cells ∧ slots ≤ rm.slots) (hW : (rest.map fun v => v.category).sum ≤ 8) (hdg : decode cc pc = .ok (.invokevirtual index, 3))
    (kk : ∀ (H1 : Heap) (locs1 : List Loc), gJK g L0 A s.heap G n H1 locs1 → W p l e R s m args below meth c H1 locs1 cells slots Q (F0 m (pc + 3) ls (.int (su.2.2.2.2.2.1 k 1) :: rest))) : W p l e R s m args below meth c H locs cells slots Q (F0 m pc ls (.ref (su.2.2.2.1 k) :: rest)) := by
  refine g_callV hF hG hl (hsu.2.2.2.2.2.2.2.1 k hk) (C := RX12) (T := TX12) (N := 2) rfl (w_X12_duration (g := g) (l := l) (L0 := L0) (G := G) (sz := n) (a := su.2.2.2.1 k) (t := su.2.2.2.2.2.1 k 0) (d := su.2.2.2.2.2.1 k 1) (hsu.2.2.2.2.2.2.2.1 k hk) (out := su.2.2.2.2.2.1 k 1) rfl) (cwV 0 hF.1.2.2.2.2 (lw_V hq q1655 q1656 q118 q1657) rfl rfl rfl (by decide +kernel) (g_room hF r1 r2)) rfl rfl hW hdg (hf0 hF.2.2.2.2 hc) (fun v G1 n1 H1 locs1 hR hG1 => ?_)
  obtain ⟨rfl, h2, h3⟩ := hR
  rw [h2, h3] at hG1
  exact kk H1 locs1 hG1
/-- Integer.bitCount -/
theorem ks_bits (hq : (Cond.methodLink own index yJ16_bitCount) ∈ lw_all) (hF : gXK p m c cc nL s args own g A R rm) (hG : gJK g L0 A s.heap G n H locs) (hl : lv_has ls nL lv) (r1 : 0 + 1 ≤ rm.frames) (r2 : 8 + (1 + 11) + 0 ≤ rm.locals) {x : Int32} {f : Int32 → Option γ} (h : ob1 (j_J16_bitCount x) f = some o) (hc : cells ≤ rm.cells ∧ slots ≤ rm.slots) (hW : (rest.map fun v => v.category).sum ≤ 8) (hdg : decode cc pc = .ok (.invokestatic index, 3))
    (kk : ∀ (v : Int32) (H1 : Heap) (locs1 : List Loc), f v = some o → gJK g L0 A s.heap G n H1 locs1 → W p l e R s m args below meth c H1 locs1 cells slots Q (F0 m (pc + 3) ls (.int v :: rest))) : W p l e R s m args below meth c H locs cells slots Q (F0 m pc ls (.int x :: rest)) := by
  obtain ⟨v, hv, h⟩ := ob1_e h
  refine g_callS hF hG hl (w_J16_bitCount (g := g) (l := l) (L0 := L0) (G := G) (sz := n) (x := x) (out := v) hv) (va_cwS 1 hF.1.2.2.2.2 (lw_S hq q978 q103 q979) rfl rfl rfl (by decide +kernel) (g_room hF r1 r2)) rfl rfl hW hdg (hf0 hF.2.2.2.2 hc) (fun v G1 n1 H1 locs1 hR hG1 => ?_)
  obtain ⟨rfl, h2, h3⟩ := hR
  rw [h2, h3] at hG1
  exact kk _ H1 locs1 h hG1
end SWK
