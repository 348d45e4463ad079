/-! BlackoutStart: the methods that only look -/
theorem gx_blk {dA : Nat → ClassId} {b d u : Nat} {sc : SC} {σ : SS} {G g0 : GH} (h : blkAt dA b d u sc σ G) (hx : gx G g0) : gx G (sG dA b d u sc σ g0) := by
  rw [sG_id (h.ext hx)]
  exact hx
theorem gJ.weak {D : va_G} {cl : List vw_C} {L0 n : Nat} {A : Nat → Prop} {H0 H : Heap} {G G1 : GH} {locs : List Loc} (h : gJ D cl L0 A H0 G1 n H locs) (hx : gx G G1) : gJ D cl L0 A H0 G n H locs := ⟨fun a e q => h.1 a e (hx a e q), fun a e q => h.2.1 a e (hx a e q), h.2.2⟩
section X1L
variable {p : Program} {l : Launch} {e : Env} {R : Room} {s : State} {m : MethodId} {args : Array Value} {below : List Frame} {meth : Method} {c : Code} {H : Heap} {locs : List Loc} {cells slots : Nat} {Q : State → Prop}
variable {cc : ByteArray} {pc : Nat} {ls : Array Slot} {rest : List Value} {A : Nat → Prop} {L0 n nL : Nat} {g : gNum} {own : String} {rm : Room} {γ : Type} {o : γ} {lv : List (Nat × Value)} {RR : Option Value → GH → Nat → Prop} {RT : String → Addr → GH → Prop} {mc ms : Nat} {ret : Option FieldType}
variable {b d x : Nat} {sc : SC} {su : SU} {σ : SS} {G0 G : GH} {i : Int32} {index : Nat}
/-! X1_outletAt -/
def c_X1_outletAt (su : SU) (p0 : Int32) : Option (Nat ⊕ Nat) :=
ob1 (j_X1_in (p0.toInt64) 0 (((U_n su) - 1).toInt64)) fun (v1 : Int32) =>
if v1 = 0 then (
some (Sum.inl 3))
else (
ob1 (U_at su p0) fun (i2 : Nat) =>
some (Sum.inr i2))
set_option maxRecDepth 100000 in
theorem w_X1_outletAt {l : Launch} (hst : l.stackTraces = false) {g : gNum} {L0 x b d sz hn : Nat} {su : SU} {sc : SC} {σ : SS} {iv by_ : Nat → Int32} {hi : List SS} {so : Nat → Option SS} {G : GH} (hX : XW g.2.1 L0 x (su, sc, σ, iv, by_, hi, so) b d G) (hhn : hi.length = hn) {p0 : Int32} {out : Nat ⊕ Nat} (h : c_X1_outletAt su p0 = some out) : gMetX l yX1_outletAt (ws_ yX1_outletAt cX1_outletAt 2 (some (.object "BlackoutStart$Outlet"))) g.1 clX L0 (gK g) [.ref x, .int p0] G sz 9 110 1 6 (fun v G' n => ∃ r, out = .inr r ∧ v = some (.ref (su.2.2.1 r)) ∧ r < su.1 7 ∧ gx G G') (fun E _ G' => ∃ k, out = .inl k ∧ E = exN k ∧ gx G G') := by
  refine gMetX.of (own := RX1) (gK_ok g) (by decide +kernel) (Nat.le_of_ble_eq_true rfl) rfl ?_
  intro p e R s m args below meth c A Q ls H hF hQ hnt hG hl
  obtain ⟨Q', hQ', hret⟩ := gx_ret hQ
  have hx := hF.1.1
  have hb := hF.1.2.1
  have hts := hF.1.2.2.2.2
  have hl : lv_has ls 2 [(0, .ref x), (1, .int p0)] := hl
  obtain ⟨bb, hd, he, sl, f, h9, t9, Bs, S, o⟩ := hX
  obtain ⟨hid, hL0, hsu, hsc, hfx, hfb, hfh, hfe, hfs⟩ := o.use
  have hdq := o.2.2.1
  have hlen : (Bs.map (·.1.1)).length = hn := by rw [List.length_map, ← hhn, show hi = Bs.map (·.2) from o.2.2.2.1, List.length_map]
  have hgb : ∀ g0, gx G g0 → gx G (sG g.2.1 b d (su.1 0) sc σ g0) := fun g0 h => gx_blk o.2.2.2.2.2.1.2.1 h
  have hG : gJK g L0 A s.heap (sG g.2.1 b d (su.1 0) sc σ G) sz H [] := by
    rw [hid]
    exact hG
  unfold c_X1_outletAt at h
  refine lv_iload_n hx hb dX1_outletAt_0 rfl (lv_at hl 1 rfl) ?_
  refine lv_i2l hx hb dX1_outletAt_1 rfl ?_
  refine lv_lconst (v := 0) hx hb dX1_outletAt_2 (by decide) ?_
  refine lv_aload_n hx hb dX1_outletAt_3 rfl (lv_at hl 0 rfl) ?_
  refine g_get hF hG hfx.rd (C := RX1) (T := TX1) (N := 7) rfl in_X1 4 (by decide) q754 (fun _ h => h) (v := .ref b) rfl dX1_outletAt_4 ?_
  refine g_getN hF hG sG_0 (C := RX2) (T := TX2) (N := 26) rfl in_X2 0 (by decide) q590 (fun _ h => h) (v := .ref (su.1 0)) rfl dX1_outletAt_7 ?_
  refine ks_size q1460 hF (su_of hsu) hG hl (Nat.le_of_ble_eq_true rfl) (Nat.le_of_ble_eq_true rfl) ⟨Nat.le_of_ble_eq_true rfl, Nat.le_of_ble_eq_true rfl⟩ (Nat.le_of_ble_eq_true rfl) dX1_outletAt_10 (fun H locs hG => ?_)
  refine lv_iconst (v := 1) hx hb dX1_outletAt_13 (by decide) ?_
  refine lv_isub hx hb dX1_outletAt_14 ?_
  refine lv_i2l hx hb dX1_outletAt_15 rfl ?_
  refine kx_in q1029 hF hG hl (Nat.le_of_ble_eq_true rfl) (Nat.le_of_ble_eq_true rfl) h ⟨Nat.le_of_ble_eq_true rfl, Nat.le_of_ble_eq_true rfl⟩ (Nat.le_of_ble_eq_true rfl) dX1_outletAt_16 (fun v1 H locs h hG => ?_)
  refine kx_chk3 q1032 hst hF hQ hnt hG hl (Nat.le_of_ble_eq_true rfl) (Nat.le_of_ble_eq_true rfl) h ⟨Nat.le_of_ble_eq_true rfl, Nat.le_of_ble_eq_true rfl⟩ ⟨Nat.le_of_ble_eq_true rfl, Nat.le_of_ble_eq_true rfl⟩ (Nat.le_of_ble_eq_true rfl) dX1_outletAt_19 (fun h => ?_) (fun h H locs hG => ?_)
  · have h := Option.some.inj h
    subst h
    exact fun _ => ⟨3, rfl, rfl, (hgb _ gx_rfl)⟩
  · refine lv_aload_n hx hb dX1_outletAt_22 rfl (lv_at hl 0 rfl) ?_
    refine g_get hF hG hfx.rd (C := RX1) (T := TX1) (N := 7) rfl in_X1 4 (by decide) q754 (fun _ h => h) (v := .ref b) rfl dX1_outletAt_23 ?_
    refine lv_iload_n hx hb dX1_outletAt_26 rfl (lv_at hl 1 rfl) ?_
    refine ks_at q1504 hF hsu hG hl (Nat.le_of_ble_eq_true rfl) (Nat.le_of_ble_eq_true rfl) h ⟨Nat.le_of_ble_eq_true rfl, Nat.le_of_ble_eq_true rfl⟩ (Nat.le_of_ble_eq_true rfl) dX1_outletAt_27 (fun i2 H locs hi_i2 h hG => ?_)
    have h := Option.some.inj h
    subst h
    exact hret _ _ _ _ _ (g_aret hQ' (Or.inl ⟨_, rfl⟩) hG (Or.inr ⟨_, rfl⟩) ⟨_, rfl, rfl, hi_i2, (hgb _ gx_rfl)⟩ (Nat.le_of_ble_eq_true rfl) (Nat.le_of_ble_eq_true rfl) dX1_outletAt_30)
theorem kx_outletAt {f : Nat → Option Nat} {h9 t9 : Int32} {Bs : List (BA × SS)} {S : Nat → Option (BA × SS)} {bb hd he sl : Nat} {iv by_ : Nat → Int32} {hi : List SS} {so : Nat → Option SS} (hq : (Cond.methodLink own index yX1_outletAt) ∈ lw_all) (hst : l.stackTraces = false) (hF : gXK p m c cc nL s args own g A R rm) (hQ : gQX p l e R s m args below meth c cc g.1 clX L0 A RR RT mc ms ret Q) (hnt : ∀ x ∈ c.exceptionTable.toList, False) (o9 : XO g.2.1 L0 x (su, sc, σ, iv, by_, hi, so) b d G bb hd he sl f h9 t9 Bs S) (hid : sG g.2.1 b d (su.1 0) sc σ G = G) (hsu : suOK g.2.1 su b d G) (hfx : suAt b d G x (.inr (0, xV bb b hd sl iv))) (hG : gJK g L0 A s.heap (sG g.2.1 b d (su.1 0) sc σ G) n H locs) (hl : lv_has ls nL lv) (r1 : 9 + 1 ≤ rm.frames) (r2 : 8 + (2 + 11) + 110 ≤ rm.locals) {P : Nat → Option γ} {F : Nat → Option γ} (h : oe1 (c_X1_outletAt su i) P F = some o) (hc : cells + 1 ≤ rm.cells ∧ slots + 6 ≤ rm.slots) (hmc : cells + 1 ≤ mc ∧ slots + 6 ≤ ms) (hW : (rest.map fun v => v.category).sum ≤ 8) (hdg : decode cc pc = .ok (.invokevirtual index, 3))
    (kx : ∀ k, P k = some o → ∀ q, RT (exN k) q (sG g.2.1 b d (su.1 0) sc σ G)) (kk : ∀ (k n1 : Nat) (H1 : Heap) (locs1 : List Loc), k < su.1 7 → F k = some o → gJK g L0 A s.heap (sG g.2.1 b d (su.1 0) sc σ G) n1 H1 locs1 → W p l e R s m args below meth c H1 locs1 (cells + 1) (slots + 6) Q (F0 m (pc + 3) ls (.ref (su.2.2.1 k) :: rest))) : W p l e R s m args below meth c H locs cells slots Q (F0 m pc ls (.int i :: .ref x :: rest)) := by
  rw [hid] at hG kx kk
  have hX : XW g.2.1 L0 x (su, sc, σ, iv, by_, hi, so) b d G := ⟨bb, hd, he, sl, f, h9, t9, Bs, S, o9⟩
  have hr : ∃ r, c_X1_outletAt su i = some r := by
    cases hr : c_X1_outletAt su i with
    | none => rw [hr] at h; cases h
    | some r => exact ⟨r, rfl⟩
  obtain ⟨r, hr⟩ := hr
  rw [hr] at h
  refine gx_callV hF hG hl hfx.1 (C := RX1) (T := TX1) (N := 7) rfl (w_X1_outletAt (sz := n) hst hX rfl hr) (cwV 1 hF.1.2.2.2.2 (lw_V hq q1502 qs26 q82 q1503) rfl rfl rfl (by decide +kernel) (g_room hF r1 r2)) rfl rfl hW hdg (hfA hF.2.2.2.2 hc) (fun E q ce G1 n1 H1 locs1 hR hG1 h1 h2 h3 => ?_) (fun v' G1 n1 H1 locs1 hR hG1 => ?_)
  · obtain ⟨k, rfl, rfl, h5⟩ := hR
    exact gx_out hQ (fun x hx => (hnt x hx).elim) (hG1.weak h5) (kx k h q) h1 h2 h3 hmc.1 hmc.2
  · obtain ⟨k, rfl, rfl, hk, h5⟩ := hR
    exact kk k n1 H1 locs1 hk h (hG1.weak h5)
/-! X1_errorCode -/
def c_X1_errorCode (iv : Nat → Int32) : Option (Int32) :=
some (iv 2)
set_option maxRecDepth 100000 in
theorem w_X1_errorCode {l : Launch} {g : gNum} {L0 x b d sz hn : Nat} {su : SU} {sc : SC} {σ : SS} {iv by_ : Nat → Int32} {hi : List SS} {so : Nat → Option SS} {G : GH} (hX : XW g.2.1 L0 x (su, sc, σ, iv, by_, hi, so) b d G) (hhn : hi.length = hn) {out : Int32} (h : c_X1_errorCode iv = some out) : gMet l yX1_errorCode (ws_ yX1_errorCode cX1_errorCode 1 (some .int)) g.1 clX L0 (gK g) [.ref x] G sz 0 0 0 0 (fun v G' n => v = some (.int out) ∧ gx G G') := by
  refine gMet.of (own := RX1) (gK_ok g) (by decide +kernel) (Nat.le_of_ble_eq_true rfl) rfl ?_
  intro p e R s m args below meth c A Q ls H hF hQ hin hG hl
  have hx := hF.1.1
  have hb := hF.1.2.1
  have hts := hF.1.2.2.2.2
  have hl : lv_has ls 1 [(0, .ref x)] := hl
  obtain ⟨bb, hd, he, sl, f, h9, t9, Bs, S, o⟩ := hX
  obtain ⟨hid, hL0, hsu, hsc, hfx, hfb, hfh, hfe, hfs⟩ := o.use
  have hdq := o.2.2.1
  have hlen : (Bs.map (·.1.1)).length = hn := by rw [List.length_map, ← hhn, show hi = Bs.map (·.2) from o.2.2.2.1, List.length_map]
  have hgb : ∀ g0, gx G g0 → gx G (sG g.2.1 b d (su.1 0) sc σ g0) := fun g0 h => gx_blk o.2.2.2.2.2.1.2.1 h
  have hG : gJK g L0 A s.heap (sG g.2.1 b d (su.1 0) sc σ G) sz H [] := by
    rw [hid]
    exact hG
  unfold c_X1_errorCode at h
  refine lv_aload_n hx hb dX1_errorCode_0 rfl (lv_at hl 0 rfl) ?_
  refine g_get hF hG hfx.rd (C := RX1) (T := TX1) (N := 7) rfl in_X1 2 (by decide) q752 (fun _ h => h) (v := .int (iv 2)) rfl dX1_errorCode_1 ?_
  have h := Option.some.inj h
  subst h
  exact g_iret hQ hG ⟨rfl, (hgb _ gx_rfl)⟩ (Nat.le_of_ble_eq_true rfl) (Nat.le_of_ble_eq_true rfl) dX1_errorCode_4
/-! X1_errorPosition -/
def c_X1_errorPosition (iv : Nat → Int32) : Option (Int32) :=
some (iv 3)
set_option maxRecDepth 100000 in
theorem w_X1_errorPosition {l : Launch} {g : gNum} {L0 x b d sz hn : Nat} {su : SU} {sc : SC} {σ : SS} {iv by_ : Nat → Int32} {hi : List SS} {so : Nat → Option SS} {G : GH} (hX : XW g.2.1 L0 x (su, sc, σ, iv, by_, hi, so) b d G) (hhn : hi.length = hn) {out : Int32} (h : c_X1_errorPosition iv = some out) : gMet l yX1_errorPosition (ws_ yX1_errorPosition cX1_errorPosition 1 (some .int)) g.1 clX L0 (gK g) [.ref x] G sz 0 0 0 0 (fun v G' n => v = some (.int out) ∧ gx G G') := by
  refine gMet.of (own := RX1) (gK_ok g) (by decide +kernel) (Nat.le_of_ble_eq_true rfl) rfl ?_
  intro p e R s m args below meth c A Q ls H hF hQ hin hG hl
  have hx := hF.1.1
  have hb := hF.1.2.1
  have hts := hF.1.2.2.2.2
  have hl : lv_has ls 1 [(0, .ref x)] := hl
  obtain ⟨bb, hd, he, sl, f, h9, t9, Bs, S, o⟩ := hX
  obtain ⟨hid, hL0, hsu, hsc, hfx, hfb, hfh, hfe, hfs⟩ := o.use
  have hdq := o.2.2.1
  have hlen : (Bs.map (·.1.1)).length = hn := by rw [List.length_map, ← hhn, show hi = Bs.map (·.2) from o.2.2.2.1, List.length_map]
  have hgb : ∀ g0, gx G g0 → gx G (sG g.2.1 b d (su.1 0) sc σ g0) := fun g0 h => gx_blk o.2.2.2.2.2.1.2.1 h
  have hG : gJK g L0 A s.heap (sG g.2.1 b d (su.1 0) sc σ G) sz H [] := by
    rw [hid]
    exact hG
  unfold c_X1_errorPosition at h
  refine lv_aload_n hx hb dX1_errorPosition_0 rfl (lv_at hl 0 rfl) ?_
  refine g_get hF hG hfx.rd (C := RX1) (T := TX1) (N := 7) rfl in_X1 3 (by decide) q753 (fun _ h => h) (v := .int (iv 3)) rfl dX1_errorPosition_1 ?_
  have h := Option.some.inj h
  subst h
  exact g_iret hQ hG ⟨rfl, (hgb _ gx_rfl)⟩ (Nat.le_of_ble_eq_true rfl) (Nat.le_of_ble_eq_true rfl) dX1_errorPosition_4
/-! X1_rights -/
def c_X1_rights (su : SU) (σ : SS) : Option (Int32) :=
ob1 (c_X2_rights su σ) fun (v1 : Int32) =>
some v1
set_option maxRecDepth 100000 in
theorem w_X1_rights {l : Launch} {g : gNum} {L0 x b d sz hn : Nat} {su : SU} {sc : SC} {σ : SS} {iv by_ : Nat → Int32} {hi : List SS} {so : Nat → Option SS} {G : GH} (hX : XW g.2.1 L0 x (su, sc, σ, iv, by_, hi, so) b d G) (hhn : hi.length = hn) {out : Int32} (h : c_X1_rights su σ = some out) : gMet l yX1_rights (ws_ yX1_rights cX1_rights 1 (some .int)) g.1 clX L0 (gK g) [.ref x] G sz 5 109 0 0 (fun v G' n => v = some (.int out) ∧ gx G G') := by
  refine gMet.of (own := RX1) (gK_ok g) (by decide +kernel) (Nat.le_of_ble_eq_true rfl) rfl ?_
  intro p e R s m args below meth c A Q ls H hF hQ hin hG hl
  have hx := hF.1.1
  have hb := hF.1.2.1
  have hts := hF.1.2.2.2.2
  have hl : lv_has ls 1 [(0, .ref x)] := hl
  obtain ⟨bb, hd, he, sl, f, h9, t9, Bs, S, o⟩ := hX
  obtain ⟨hid, hL0, hsu, hsc, hfx, hfb, hfh, hfe, hfs⟩ := o.use
  have hdq := o.2.2.1
  have hlen : (Bs.map (·.1.1)).length = hn := by rw [List.length_map, ← hhn, show hi = Bs.map (·.2) from o.2.2.2.1, List.length_map]
  have hgb : ∀ g0, gx G g0 → gx G (sG g.2.1 b d (su.1 0) sc σ g0) := fun g0 h => gx_blk o.2.2.2.2.2.1.2.1 h
  have hG : gJK g L0 A s.heap (sG g.2.1 b d (su.1 0) sc σ G) sz H [] := by
    rw [hid]
    exact hG
  unfold c_X1_rights at h
  refine lv_aload_n hx hb dX1_rights_0 rfl (lv_at hl 0 rfl) ?_
  refine g_get hF hG hfx.rd (C := RX1) (T := TX1) (N := 7) rfl in_X1 4 (by decide) q754 (fun _ h => h) (v := .ref b) rfl dX1_rights_1 ?_
  refine k_X2_rights q784 hF hL0 hsu hsc hG hl (Nat.le_of_ble_eq_true rfl) (Nat.le_of_ble_eq_true rfl) h ⟨Nat.le_of_ble_eq_true rfl, Nat.le_of_ble_eq_true rfl⟩ (Nat.le_of_ble_eq_true rfl) dX1_rights_4 (fun v1 H locs h hG => ?_)
  have h := Option.some.inj h
  subst h
  exact g_iret hQ hG ⟨rfl, (hgb _ gx_rfl)⟩ (Nat.le_of_ble_eq_true rfl) (Nat.le_of_ble_eq_true rfl) dX1_rights_7
/-! X1_strain -/
def c_X1_strain (σ : SS) : Option (UInt64) :=
gd ((FP.ddiv (FP.i2d (σ.1 23)) (FP.i2d (σ.1 17))) &&& 0x7fffffffffffffff ≤ 0x7ff0000000000000) <|
some (FP.ddiv (FP.i2d (σ.1 23)) (FP.i2d (σ.1 17)))
set_option maxRecDepth 100000 in
theorem w_X1_strain {l : Launch} {g : gNum} {L0 x b d sz hn : Nat} {su : SU} {sc : SC} {σ : SS} {iv by_ : Nat → Int32} {hi : List SS} {so : Nat → Option SS} {G : GH} (hX : XW g.2.1 L0 x (su, sc, σ, iv, by_, hi, so) b d G) (hhn : hi.length = hn) {out : UInt64} (h : c_X1_strain σ = some out) : gMet l yX1_strain (ws_ yX1_strain cX1_strain 1 (some .double)) g.1 clX L0 (gK g) [.ref x] G sz 0 0 0 0 (fun v G' n => v = some (.double out) ∧ gx G G') := by
  refine gMet.of (own := RX1) (gK_ok g) (by decide +kernel) (Nat.le_of_ble_eq_true rfl) rfl ?_
  intro p e R s m args below meth c A Q ls H hF hQ hin hG hl
  have hx := hF.1.1
  have hb := hF.1.2.1
  have hts := hF.1.2.2.2.2
  have hl : lv_has ls 1 [(0, .ref x)] := hl
  obtain ⟨bb, hd, he, sl, f, h9, t9, Bs, S, o⟩ := hX
  obtain ⟨hid, hL0, hsu, hsc, hfx, hfb, hfh, hfe, hfs⟩ := o.use
  have hdq := o.2.2.1
  have hlen : (Bs.map (·.1.1)).length = hn := by rw [List.length_map, ← hhn, show hi = Bs.map (·.2) from o.2.2.2.1, List.length_map]
  have hgb : ∀ g0, gx G g0 → gx G (sG g.2.1 b d (su.1 0) sc σ g0) := fun g0 h => gx_blk o.2.2.2.2.2.1.2.1 h
  have hG : gJK g L0 A s.heap (sG g.2.1 b d (su.1 0) sc σ G) sz H [] := by
    rw [hid]
    exact hG
  unfold c_X1_strain at h
  refine lv_aload_n hx hb dX1_strain_0 rfl (lv_at hl 0 rfl) ?_
  refine g_get hF hG hfx.rd (C := RX1) (T := TX1) (N := 7) rfl in_X1 4 (by decide) q754 (fun _ h => h) (v := .ref b) rfl dX1_strain_1 ?_
  refine g_getN hF hG sG_0 (C := RX2) (T := TX2) (N := 26) rfl in_X2 23 (by decide) q631 (fun _ h => h) (v := .int (σ.1 23)) rfl dX1_strain_4 ?_
  refine lv_i2d hx hb dX1_strain_7 ?_
  refine lv_aload_n hx hb dX1_strain_8 rfl (lv_at hl 0 rfl) ?_
  refine g_get hF hG hfx.rd (C := RX1) (T := TX1) (N := 7) rfl in_X1 4 (by decide) q754 (fun _ h => h) (v := .ref b) rfl dX1_strain_9 ?_
  refine g_getN hF hG sG_0 (C := RX2) (T := TX2) (N := 26) rfl in_X2 17 (by decide) q619 (fun _ h => h) (v := .int (σ.1 17)) rfl dX1_strain_12 ?_
  refine lv_i2d hx hb dX1_strain_15 ?_
  refine gb_ddiv hx hb dX1_strain_16 h (fun h => ?_)
  have h := Option.some.inj h
  subst h
  exact g_dret hQ hG ⟨rfl, (hgb _ gx_rfl)⟩ (Nat.le_of_ble_eq_true rfl) (Nat.le_of_ble_eq_true rfl) dX1_strain_17
/-! X1_outletsWith -/
def c_X1_outletsWith (su : SU) (σ : SS) (p0 : Int32) (p1 : Int32) : Option (Nat ⊕ Int32) :=
ob1 (j_X1_in (p0.toInt64) 0 3) fun (v1 : Int32) =>
if v1 = 0 then (
some (Sum.inl 1))
else (
if p1 = 0 then (
ob1 (c_X2_inState su σ p0) fun (v2 : Int32) =>
some (Sum.inr v2))
else (
ob1 (c_X2_withMark su σ p0) fun (v3 : Int32) =>
some (Sum.inr v3)))
set_option maxRecDepth 100000 in
theorem w_X1_outletsWith {l : Launch} (hst : l.stackTraces = false) {g : gNum} {L0 x b d sz hn : Nat} {su : SU} {sc : SC} {σ : SS} {iv by_ : Nat → Int32} {hi : List SS} {so : Nat → Option SS} {G : GH} (hX : XW g.2.1 L0 x (su, sc, σ, iv, by_, hi, so) b d G) (hhn : hi.length = hn) {p0 : Int32} {p1 : Int32} {out : Nat ⊕ Int32} (h : c_X1_outletsWith su σ p0 p1 = some out) : gMetX l yX1_outletsWith (ws_ yX1_outletsWith cX1_outletsWith 3 (some .int)) g.1 clX L0 (gK g) [.ref x, .int p0, .int p1] G sz 9 110 1 6 (fun v G' n => ∃ r, out = .inr r ∧ v = some (.int r) ∧ gx G G') (fun E _ G' => ∃ k, out = .inl k ∧ E = exN k ∧ gx G G') := by
  refine gMetX.of (own := RX1) (gK_ok g) (by decide +kernel) (Nat.le_of_ble_eq_true rfl) rfl ?_
  intro p e R s m args below meth c A Q ls H hF hQ hnt hG hl
  obtain ⟨Q', hQ', hret⟩ := gx_ret hQ
  have hx := hF.1.1
  have hb := hF.1.2.1
  have hts := hF.1.2.2.2.2
  have hl : lv_has ls 3 [(0, .ref x), (1, .int p0), (2, .int p1)] := hl
  obtain ⟨bb, hd, he, sl, f, h9, t9, Bs, S, o⟩ := hX
  obtain ⟨hid, hL0, hsu, hsc, hfx, hfb, hfh, hfe, hfs⟩ := o.use
  have hdq := o.2.2.1
  have hlen : (Bs.map (·.1.1)).length = hn := by rw [List.length_map, ← hhn, show hi = Bs.map (·.2) from o.2.2.2.1, List.length_map]
  have hgb : ∀ g0, gx G g0 → gx G (sG g.2.1 b d (su.1 0) sc σ g0) := fun g0 h => gx_blk o.2.2.2.2.2.1.2.1 h
  have hG : gJK g L0 A s.heap (sG g.2.1 b d (su.1 0) sc σ G) sz H [] := by
    rw [hid]
    exact hG
  unfold c_X1_outletsWith at h
  refine lv_iload_n hx hb dX1_outletsWith_0 rfl (lv_at hl 1 rfl) ?_
  refine lv_i2l hx hb dX1_outletsWith_1 rfl ?_
  refine lv_lconst (v := 0) hx hb dX1_outletsWith_2 (by decide) ?_
  refine lv_ldc2 (v := 3) hx hb hF.1.2.2.2.1 (hts _ q1530) dX1_outletsWith_3 ?_
  refine kx_in q1029 hF hG hl (Nat.le_of_ble_eq_true rfl) (Nat.le_of_ble_eq_true rfl) h ⟨Nat.le_of_ble_eq_true rfl, Nat.le_of_ble_eq_true rfl⟩ (Nat.le_of_ble_eq_true rfl) dX1_outletsWith_6 (fun v1 H locs h hG => ?_)
  refine kx_chk1 q1452 hst hF hQ hnt hG hl (Nat.le_of_ble_eq_true rfl) (Nat.le_of_ble_eq_true rfl) h ⟨Nat.le_of_ble_eq_true rfl, Nat.le_of_ble_eq_true rfl⟩ ⟨Nat.le_of_ble_eq_true rfl, Nat.le_of_ble_eq_true rfl⟩ (Nat.le_of_ble_eq_true rfl) dX1_outletsWith_9 (fun h => ?_) (fun h H locs hG => ?_)
  · have h := Option.some.inj h
    subst h
    exact fun _ => ⟨1, rfl, rfl, (hgb _ gx_rfl)⟩
  · refine lv_iload_n hx hb dX1_outletsWith_12 rfl (lv_at hl 2 rfl) ?_
    refine gb_if_eq hx hb dX1_outletsWith_13 (tgt := 27) (by decide) h (fun h => ?_) (fun h => ?_)
    · refine lv_aload_n hx hb dX1_outletsWith_27 rfl (lv_at hl 0 rfl) ?_
      refine g_get hF hG hfx.rd (C := RX1) (T := TX1) (N := 7) rfl in_X1 4 (by decide) q754 (fun _ h => h) (v := .ref b) rfl dX1_outletsWith_28 ?_
      refine lv_iload_n hx hb dX1_outletsWith_31 rfl (lv_at hl 1 rfl) ?_
      refine k_X2_inState q1532 hF hL0 hsu hsc hG hl (Nat.le_of_ble_eq_true rfl) (Nat.le_of_ble_eq_true rfl) h ⟨Nat.le_of_ble_eq_true rfl, Nat.le_of_ble_eq_true rfl⟩ (Nat.le_of_ble_eq_true rfl) dX1_outletsWith_32 (fun v2 H locs h hG => ?_)
      have h := Option.some.inj h
      subst h
      exact hret _ _ _ _ _ (g_iret hQ' hG ⟨_, rfl, rfl, (hgb _ gx_rfl)⟩ (Nat.le_of_ble_eq_true rfl) (Nat.le_of_ble_eq_true rfl) dX1_outletsWith_35)
    · refine lv_aload_n hx hb dX1_outletsWith_16 rfl (lv_at hl 0 rfl) ?_
      refine g_get hF hG hfx.rd (C := RX1) (T := TX1) (N := 7) rfl in_X1 4 (by decide) q754 (fun _ h => h) (v := .ref b) rfl dX1_outletsWith_17 ?_
      refine lv_iload_n hx hb dX1_outletsWith_20 rfl (lv_at hl 1 rfl) ?_
      refine k_X2_withMark q1531 hF hL0 hsu hsc hG hl (Nat.le_of_ble_eq_true rfl) (Nat.le_of_ble_eq_true rfl) h ⟨Nat.le_of_ble_eq_true rfl, Nat.le_of_ble_eq_true rfl⟩ (Nat.le_of_ble_eq_true rfl) dX1_outletsWith_21 (fun v3 H locs h hG => ?_)
      refine lv_goto hx hb dX1_outletsWith_24 (tgt := 35) (by decide) ?_
      have h := Option.some.inj h
      subst h
      exact hret _ _ _ _ _ (g_iret hQ' hG ⟨_, rfl, rfl, (hgb _ gx_rfl)⟩ (Nat.le_of_ble_eq_true rfl) (Nat.le_of_ble_eq_true rfl) dX1_outletsWith_35)
/-! X1_load_2 -/
def c_X1_load_2 (su : SU) (σ : SS) (p0 : Int32) : Option (Nat ⊕ Int32) :=
if p0 = 0 then (
ob1 (c_X2_load su σ) fun (v1 : Int32) =>
some (Sum.inr v1))
else if p0 = 1 then (
some (Sum.inr (σ.1 23)))
else if p0 = 2 then (
ob1 (c_X2_reserved su σ) fun (v2 : Int32) =>
some (Sum.inr v2))
else (
some (Sum.inl 1))
set_option maxRecDepth 100000 in
theorem w_X1_load_2 {l : Launch} (hst : l.stackTraces = false) {g : gNum} {L0 x b d sz hn : Nat} {su : SU} {sc : SC} {σ : SS} {iv by_ : Nat → Int32} {hi : List SS} {so : Nat → Option SS} {G : GH} (hX : XW g.2.1 L0 x (su, sc, σ, iv, by_, hi, so) b d G) (hhn : hi.length = hn) {p0 : Int32} {out : Nat ⊕ Int32} (h : c_X1_load_2 su σ p0 = some out) : gMetX l yX1_load_2 (ws_ yX1_load_2 cX1_load_2 2 (some .int)) g.1 clX L0 (gK g) [.ref x, .int p0] G sz 9 149 1 6 (fun v G' n => ∃ r, out = .inr r ∧ v = some (.int r) ∧ gx G G') (fun E _ G' => ∃ k, out = .inl k ∧ E = exN k ∧ gx G G') := by
  refine gMetX.of (own := RX1) (gK_ok g) (by decide +kernel) (Nat.le_of_ble_eq_true rfl) rfl ?_
  intro p e R s m args below meth c A Q ls H hF hQ hnt hG hl
  obtain ⟨Q', hQ', hret⟩ := gx_ret hQ
  have hx := hF.1.1
  have hb := hF.1.2.1
  have hts := hF.1.2.2.2.2
  have hl : lv_has ls 2 [(0, .ref x), (1, .int p0)] := hl
  obtain ⟨bb, hd, he, sl, f, h9, t9, Bs, S, o⟩ := hX
  obtain ⟨hid, hL0, hsu, hsc, hfx, hfb, hfh, hfe, hfs⟩ := o.use
  have hdq := o.2.2.1
  have hlen : (Bs.map (·.1.1)).length = hn := by rw [List.length_map, ← hhn, show hi = Bs.map (·.2) from o.2.2.2.1, List.length_map]
  have hgb : ∀ g0, gx G g0 → gx G (sG g.2.1 b d (su.1 0) sc σ g0) := fun g0 h => gx_blk o.2.2.2.2.2.1.2.1 h
  have hG : gJK g L0 A s.heap (sG g.2.1 b d (su.1 0) sc σ G) sz H [] := by
    rw [hid]
    exact hG
  unfold c_X1_load_2 at h
  refine lv_iload_n hx hb dX1_load_2_0 rfl (lv_at hl 1 rfl) ?_
  rcases gb_if h with ⟨c1, h⟩ | ⟨c1, h⟩
  · refine gb_tabIn hx hb dX1_load_2_1 c1 (by decide) (by decide) rfl (tgt := 28) (by decide) ?_
    refine lv_aload_n hx hb dX1_load_2_28 rfl (lv_at hl 0 rfl) ?_
    refine g_get hF hG hfx.rd (C := RX1) (T := TX1) (N := 7) rfl in_X1 4 (by decide) q754 (fun _ h => h) (v := .ref b) rfl dX1_load_2_29 ?_
    refine k_X2_load q1543 hF hL0 hsu hsc hG hl (Nat.le_of_ble_eq_true rfl) (Nat.le_of_ble_eq_true rfl) h ⟨Nat.le_of_ble_eq_true rfl, Nat.le_of_ble_eq_true rfl⟩ (Nat.le_of_ble_eq_true rfl) dX1_load_2_32 (fun v1 H locs h hG => ?_)
    refine lv_goto hx hb dX1_load_2_35 (tgt := 66) (by decide) ?_
    have h := Option.some.inj h
    subst h
    exact hret _ _ _ _ _ (g_iret hQ' hG ⟨_, rfl, rfl, (hgb _ gx_rfl)⟩ (Nat.le_of_ble_eq_true rfl) (Nat.le_of_ble_eq_true rfl) dX1_load_2_66)
  rcases gb_if h with ⟨c2, h⟩ | ⟨c2, h⟩
  · refine gb_tabIn hx hb dX1_load_2_1 c2 (by decide) (by decide) rfl (tgt := 38) (by decide) ?_
    refine lv_aload_n hx hb dX1_load_2_38 rfl (lv_at hl 0 rfl) ?_
    refine g_get hF hG hfx.rd (C := RX1) (T := TX1) (N := 7) rfl in_X1 4 (by decide) q754 (fun _ h => h) (v := .ref b) rfl dX1_load_2_39 ?_
    refine g_getN hF hG sG_0 (C := RX2) (T := TX2) (N := 26) rfl in_X2 23 (by decide) q631 (fun _ h => h) (v := .int (σ.1 23)) rfl dX1_load_2_42 ?_
    refine lv_goto hx hb dX1_load_2_45 (tgt := 66) (by decide) ?_
    have h := Option.some.inj h
    subst h
    exact hret _ _ _ _ _ (g_iret hQ' hG ⟨_, rfl, rfl, (hgb _ gx_rfl)⟩ (Nat.le_of_ble_eq_true rfl) (Nat.le_of_ble_eq_true rfl) dX1_load_2_66)
  rcases gb_if h with ⟨c3, h⟩ | ⟨c3, h⟩
  · refine gb_tabIn hx hb dX1_load_2_1 c3 (by decide) (by decide) rfl (tgt := 48) (by decide) ?_
    refine lv_aload_n hx hb dX1_load_2_48 rfl (lv_at hl 0 rfl) ?_
    refine g_get hF hG hfx.rd (C := RX1) (T := TX1) (N := 7) rfl in_X1 4 (by decide) q754 (fun _ h => h) (v := .ref b) rfl dX1_load_2_49 ?_
    refine k_X2_reserved q1551 hF hL0 hsu hsc hG hl (Nat.le_of_ble_eq_true rfl) (Nat.le_of_ble_eq_true rfl) h ⟨Nat.le_of_ble_eq_true rfl, Nat.le_of_ble_eq_true rfl⟩ (Nat.le_of_ble_eq_true rfl) dX1_load_2_52 (fun v2 H locs h hG => ?_)
    refine lv_goto hx hb dX1_load_2_55 (tgt := 66) (by decide) ?_
    have h := Option.some.inj h
    subst h
    exact hret _ _ _ _ _ (g_iret hQ' hG ⟨_, rfl, rfl, (hgb _ gx_rfl)⟩ (Nat.le_of_ble_eq_true rfl) (Nat.le_of_ble_eq_true rfl) dX1_load_2_66)
  refine lv_tableOut hx hb dX1_load_2_1 ?_ (tgt := 58) (by decide) ?_
  · have e1 := lv_neT c1 (a := 0) (by decide)
    have e2 := lv_neT c2 (a := 1) (by decide)
    have e3 := lv_neT c3 (a := 2) (by decide)
    omega
  have h := Option.some.inj h
  subst h
  exact g_throw0 hst hF hQ hnt hG hl ex_ok1 ⟨by decide, by decide⟩ q1455 q91 (fun _ => ⟨1, rfl, rfl, (hgb _ gx_rfl)⟩) dX1_load_2_58 dX1_load_2_61 dX1_load_2_62 dX1_load_2_65 (Nat.le_of_ble_eq_true rfl) (Nat.le_of_ble_eq_true rfl) ⟨Nat.le_of_ble_eq_true rfl, Nat.le_of_ble_eq_true rfl⟩ (Nat.le_of_ble_eq_true rfl) (Nat.le_of_ble_eq_true rfl)
/-! X1_needs -/
def c_X1_needs_L3 (su : SU) (p0 : Int32) : Nat → Int32 → Int32 → Option (Int32)
  | 0, _, _ => none
  | n + 1, y4, y5 =>
    if (U_n su) ≤ y5 then (
    some y4)
    else (
    ob1 (U_need su y5) fun (v6 : Int32) =>
    ob1 (j_X1_has v6 p0) fun (v7 : Int32) =>
    ob1 (
    if v7 = 0 then (
    some (0 : Int32))
    else (
    some (1 <<< (y5 &&& 31)))) fun (z8 : Int32) =>
    nm (y4 ||| z8) fun (x9 : Int32) =>
    nm (y5 + 1) fun (x10 : Int32) =>
    c_X1_needs_L3 su p0 n x9 x10)
def c_X1_needs (su : SU) (p0 : Int32) (p1 : Int32) : Option (Nat ⊕ Int32) :=
oe1 (ρ := Nat) (c_X1_outletAt su p0) (fun k => some (Sum.inl k)) fun (i1 : Nat) =>
if p1 = 0 then (
ob1 (U_need su p0) fun (v12 : Int32) =>
some (Sum.inr v12))
else (
ob1 (
c_X1_needs_L3 su p0 4096 0 0) fun (z11 : Int32) =>
some (Sum.inr z11))
set_option maxRecDepth 100000 in
theorem w_X1_needs {l : Launch} (hst : l.stackTraces = false) {g : gNum} {L0 x b d sz hn : Nat} {su : SU} {sc : SC} {σ : SS} {iv by_ : Nat → Int32} {hi : List SS} {so : Nat → Option SS} {G : GH} (hX : XW g.2.1 L0 x (su, sc, σ, iv, by_, hi, so) b d G) (hhn : hi.length = hn) {p0 : Int32} {p1 : Int32} {out : Nat ⊕ Int32} (h : c_X1_needs su p0 p1 = some out) : gMetX l yX1_needs (ws_ yX1_needs cX1_needs 6 (some .int)) g.1 clX L0 (gK g) [.ref x, .int p0, .int p1] G sz 10 131 1 6 (fun v G' n => ∃ r, out = .inr r ∧ v = some (.int r) ∧ gx G G') (fun E _ G' => ∃ k, out = .inl k ∧ E = exN k ∧ gx G G') := by
  refine gMetX.of (own := RX1) (gK_ok g) (by decide +kernel) (Nat.le_of_ble_eq_true rfl) rfl ?_
  intro p e R s m args below meth c A Q ls H hF hQ hnt hG hl
  obtain ⟨Q', hQ', hret⟩ := gx_ret hQ
  have hx := hF.1.1
  have hb := hF.1.2.1
  have hts := hF.1.2.2.2.2
  have hl : lv_has ls 6 [(0, .ref x), (1, .int p0), (2, .int p1)] := hl
  obtain ⟨bb, hd, he, sl, f, h9, t9, Bs, S, o⟩ := hX
  obtain ⟨hid, hL0, hsu, hsc, hfx, hfb, hfh, hfe, hfs⟩ := o.use
  have hdq := o.2.2.1
  have hlen : (Bs.map (·.1.1)).length = hn := by rw [List.length_map, ← hhn, show hi = Bs.map (·.2) from o.2.2.2.1, List.length_map]
  have hgb : ∀ g0, gx G g0 → gx G (sG g.2.1 b d (su.1 0) sc σ g0) := fun g0 h => gx_blk o.2.2.2.2.2.1.2.1 h
  have hG : gJK g L0 A s.heap (sG g.2.1 b d (su.1 0) sc σ G) sz H [] := by
    rw [hid]
    exact hG
  unfold c_X1_needs at h
  refine lv_aload_n hx hb dX1_needs_0 rfl (lv_at hl 0 rfl) ?_
  refine lv_iload_n hx hb dX1_needs_1 rfl (lv_at hl 1 rfl) ?_
  refine kx_outletAt q1500 hst hF hQ hnt o hid hsu hfx hG hl (Nat.le_of_ble_eq_true rfl) (Nat.le_of_ble_eq_true rfl) h ⟨Nat.le_of_ble_eq_true rfl, Nat.le_of_ble_eq_true rfl⟩ ⟨Nat.le_of_ble_eq_true rfl, Nat.le_of_ble_eq_true rfl⟩ (Nat.le_of_ble_eq_true rfl) dX1_needs_2 (fun k h => by
      have h := Option.some.inj h
      subst h
      exact fun _ => ⟨k, rfl, rfl, (hgb _ gx_rfl)⟩) (fun i1 n2 H locs hi_i1 h hG => ?_)
  refine lv_astore_n hx hb dX1_needs_5 rfl hl (Nat.le_of_ble_eq_true rfl) (lv' := [(3, .ref (su.2.2.1 i1)), (0, .ref x), (1, .int p0), (2, .int p1)]) rfl (fun ls hl => ?_)
  refine lv_iload_n hx hb dX1_needs_6 rfl (lv_at hl 3 rfl) ?_
  refine gb_if_ne hx hb dX1_needs_7 (tgt := 23) (by decide) h (fun h => ?_) (fun h => ?_)
  · refine lv_iconst (v := 0) hx hb dX1_needs_23 (by decide) ?_
    refine lv_istore hx hb dX1_needs_24 hl (Nat.le_of_ble_eq_true rfl) (lv' := [(4, .int 0), (3, .ref (su.2.2.1 i1)), (0, .ref x), (1, .int p0), (2, .int p1)]) rfl (fun ls hl => ?_)
    refine lv_iconst (v := 0) hx hb dX1_needs_26 (by decide) ?_
    refine lv_istore hx hb dX1_needs_27 hl (Nat.le_of_ble_eq_true rfl) (lv' := [(5, .int 0), (4, .int 0), (3, .ref (su.2.2.1 i1)), (0, .ref x), (1, .int p0), (2, .int p1)]) rfl (fun ls hl => ?_)
    obtain ⟨X1, h, hJ1⟩ := ob1_u h
    have J1 : ∀ (z11 : Int32), X1 = z11 → ∀ (H : Heap) (locs : List Loc) (ls : Array Slot), gJK g L0 A s.heap (sG g.2.1 b d (su.1 0) sc σ G) n2 H locs → lv_has ls 6 [(4, .int z11)] → W p l e R s m args below meth c H locs 1 6 Q (F0 m 83 ls []) := by
      intro z11 e0 H locs ls hG hl
      have h := hJ1 z11 e0
      refine lv_iload hx hb dX1_needs_83 (lv_at hl 0 rfl) ?_
      have h := Option.some.inj h
      subst h
      exact hret _ _ _ _ _ (g_iret hQ' hG ⟨_, rfl, rfl, (hgb _ gx_rfl)⟩ (Nat.le_of_ble_eq_true rfl) (Nat.le_of_ble_eq_true rfl) dX1_needs_85)
    have LL3 : ∀ (n : Nat) (y4 : Int32) (y5 : Int32), c_X1_needs_L3 su p0 n y4 y5 = some X1 → ∀ (H : Heap) (locs : List Loc) (ls : Array Slot), gJK g L0 A s.heap (sG g.2.1 b d (su.1 0) sc σ G) n2 H locs → lv_has ls 6 [(0, .ref x), (1, .int p0), (4, .int y4), (5, .int y5)] → W p l e R s m args below meth c H locs 1 6 Q (F0 m 29 ls []) := by
      intro n
      induction n with
      | zero =>
        intro y4 y5 h
        rw [c_X1_needs_L3] at h
        cases h
      | succ n ihL3 =>
        intro y4 y5 h H locs ls hG hl
        rw [c_X1_needs_L3] at h
        refine lv_iload hx hb dX1_needs_29 (lv_at hl 3 rfl) ?_
        refine lv_aload_n hx hb dX1_needs_31 rfl (lv_at hl 0 rfl) ?_
        refine g_get hF hG hfx.rd (C := RX1) (T := TX1) (N := 7) rfl in_X1 4 (by decide) q754 (fun _ h => h) (v := .ref b) rfl dX1_needs_32 ?_
        refine g_getN hF hG sG_0 (C := RX2) (T := TX2) (N := 26) rfl in_X2 0 (by decide) q590 (fun _ h => h) (v := .ref (su.1 0)) rfl dX1_needs_35 ?_
        refine ks_size q1460 hF (su_of hsu) hG hl (Nat.le_of_ble_eq_true rfl) (Nat.le_of_ble_eq_true rfl) ⟨Nat.le_of_ble_eq_true rfl, Nat.le_of_ble_eq_true rfl⟩ (Nat.le_of_ble_eq_true rfl) dX1_needs_38 (fun H locs hG => ?_)
        refine gb_icmp_ge hx hb dX1_needs_41 (tgt := 83) (by decide) h (fun h => ?_) (fun h => ?_)
        · exact J1 _ (Option.some.inj h).symm _ _ _ hG (lv_sub hl [2] rfl)
        · refine lv_iload hx hb dX1_needs_44 (lv_at hl 2 rfl) ?_
          refine lv_aload_n hx hb dX1_needs_46 rfl (lv_at hl 0 rfl) ?_
          refine g_get hF hG hfx.rd (C := RX1) (T := TX1) (N := 7) rfl in_X1 4 (by decide) q754 (fun _ h => h) (v := .ref b) rfl dX1_needs_47 ?_
          refine g_getN hF hG sG_0 (C := RX2) (T := TX2) (N := 26) rfl in_X2 0 (by decide) q590 (fun _ h => h) (v := .ref (su.1 0)) rfl dX1_needs_50 ?_
          refine g_getN hF hG hsu.1.rd (C := RX3) (T := TX3) (N := 10) rfl in_X3 2 (by decide) q497 (fun _ h => h) (v := .ref (su.1 3)) rfl dX1_needs_53 ?_
          refine lv_iload hx hb dX1_needs_56 (lv_at hl 3 rfl) ?_
          refine ks_need hF (su_of hsu) hG h dX1_needs_58 (fun v6 h => ?_)
          refine lv_iload_n hx hb dX1_needs_59 rfl (lv_at hl 1 rfl) ?_
          refine kx_has q1505 hF hG hl (Nat.le_of_ble_eq_true rfl) (Nat.le_of_ble_eq_true rfl) h ⟨Nat.le_of_ble_eq_true rfl, Nat.le_of_ble_eq_true rfl⟩ (Nat.le_of_ble_eq_true rfl) dX1_needs_60 (fun v7 H locs h hG => ?_)
          obtain ⟨X2, h, hJ2⟩ := ob1_u h
          have J2 : ∀ (z8 : Int32), X2 = z8 → ∀ (H : Heap) (locs : List Loc) (ls : Array Slot), gJK g L0 A s.heap (sG g.2.1 b d (su.1 0) sc σ G) n2 H locs → lv_has ls 6 [(0, .ref x), (1, .int p0), (5, .int y5)] → W p l e R s m args below meth c H locs 1 6 Q (F0 m 74 ls [.int z8, .int y4]) := by
            intro z8 e0 H locs ls hG hl
            have h := hJ2 z8 e0
            refine lv_ior hx hb dX1_needs_74 ?_
            refine gb_nm h (fun x9 h => ?_)
            refine lv_istore hx hb dX1_needs_75 hl (Nat.le_of_ble_eq_true rfl) (lv' := [(4, .int x9), (0, .ref x), (1, .int p0), (5, .int y5)]) rfl (fun ls hl => ?_)
            refine gb_iinc (k' := 1) hx hb dX1_needs_77 hl (k := 3) rfl (by decide) (Nat.le_of_ble_eq_true rfl) h (fun x10 ls h hl => ?_)
            have hl : lv_has ls 6 [(5, .int x10), (4, .int x9), (0, .ref x), (1, .int p0)] := hl
            refine lv_goto hx hb dX1_needs_80 (tgt := 29) (by decide) ?_
            exact ihL3 _ _ h _ _ _ hG (lv_sub hl [2, 3, 1, 0] rfl)
          refine gb_if_eq hx hb dX1_needs_63 (tgt := 73) (by decide) h (fun h => ?_) (fun h => ?_)
          · refine lv_iconst (v := 0) hx hb dX1_needs_73 (by decide) ?_
            exact J2 _ (Option.some.inj h).symm _ _ _ hG (lv_sub hl [0, 1, 3] rfl)
          · refine lv_iconst (v := 1) hx hb dX1_needs_66 (by decide) ?_
            refine lv_iload hx hb dX1_needs_67 (lv_at hl 3 rfl) ?_
            refine lv_ishl hx hb dX1_needs_69 ?_
            refine lv_goto hx hb dX1_needs_70 (tgt := 74) (by decide) ?_
            exact J2 _ (Option.some.inj h).symm _ _ _ hG (lv_sub hl [0, 1, 3] rfl)
    exact LL3 _ _ _ h _ _ _ hG (lv_sub hl [3, 4, 1, 0] rfl)
  · refine lv_aload_n hx hb dX1_needs_10 rfl (lv_at hl 1 rfl) ?_
    refine g_get hF hG hfx.rd (C := RX1) (T := TX1) (N := 7) rfl in_X1 4 (by decide) q754 (fun _ h => h) (v := .ref b) rfl dX1_needs_11 ?_
    refine g_getN hF hG sG_0 (C := RX2) (T := TX2) (N := 26) rfl in_X2 0 (by decide) q590 (fun _ h => h) (v := .ref (su.1 0)) rfl dX1_needs_14 ?_
    refine g_getN hF hG hsu.1.rd (C := RX3) (T := TX3) (N := 10) rfl in_X3 2 (by decide) q497 (fun _ h => h) (v := .ref (su.1 3)) rfl dX1_needs_17 ?_
    refine lv_iload_n hx hb dX1_needs_20 rfl (lv_at hl 2 rfl) ?_
    refine ks_need hF (su_of hsu) hG h dX1_needs_21 (fun v12 h => ?_)
    have h := Option.some.inj h
    subst h
    exact hret _ _ _ _ _ (g_iret hQ' hG ⟨_, rfl, rfl, (hgb _ gx_rfl)⟩ (Nat.le_of_ble_eq_true rfl) (Nat.le_of_ble_eq_true rfl) dX1_needs_22)
/-! X1_message -/
def c_X1_message (σ : SS) (p0 : Int32) (p1 : Int32) : Option (Nat ⊕ Int32) :=
ob1 (j_X1_in (p0.toInt64) 0 (((σ.1 32) - 1).toInt64)) fun (v1 : Int32) =>
if v1 = 0 then (
some (Sum.inl 3))
else (
ob1 (S_rd σ 15 p0) fun (v2 : Int32) =>
if p1 = 0 then (
some (Sum.inr (v2 / 256)))
else if p1 = 1 then (
some (Sum.inr ((v2 / 16) - (v2 / 16) / 16 * 16)))
else if p1 = 2 then (
some (Sum.inr ((v2 - v2 / 16 * 16) - 1)))
else (
some (Sum.inl 1)))
set_option maxRecDepth 100000 in
theorem w_X1_message {l : Launch} (hst : l.stackTraces = false) {g : gNum} {L0 x b d sz hn : Nat} {su : SU} {sc : SC} {σ : SS} {iv by_ : Nat → Int32} {hi : List SS} {so : Nat → Option SS} {G : GH} (hX : XW g.2.1 L0 x (su, sc, σ, iv, by_, hi, so) b d G) (hhn : hi.length = hn) {p0 : Int32} {p1 : Int32} {out : Nat ⊕ Int32} (h : c_X1_message σ p0 p1 = some out) : gMetX l yX1_message (ws_ yX1_message cX1_message 4 (some .int)) g.1 clX L0 (gK g) [.ref x, .int p0, .int p1] G sz 9 129 2 12 (fun v G' n => ∃ r, out = .inr r ∧ v = some (.int r) ∧ gx G G') (fun E _ G' => ∃ k, out = .inl k ∧ E = exN k ∧ gx G G') := by
  refine gMetX.of (own := RX1) (gK_ok g) (by decide +kernel) (Nat.le_of_ble_eq_true rfl) rfl ?_
  intro p e R s m args below meth c A Q ls H hF hQ hnt hG hl
  obtain ⟨Q', hQ', hret⟩ := gx_ret hQ
  have hx := hF.1.1
  have hb := hF.1.2.1
  have hts := hF.1.2.2.2.2
  have hl : lv_has ls 4 [(0, .ref x), (1, .int p0), (2, .int p1)] := hl
  obtain ⟨bb, hd, he, sl, f, h9, t9, Bs, S, o⟩ := hX
  obtain ⟨hid, hL0, hsu, hsc, hfx, hfb, hfh, hfe, hfs⟩ := o.use
  have hdq := o.2.2.1
  have hlen : (Bs.map (·.1.1)).length = hn := by rw [List.length_map, ← hhn, show hi = Bs.map (·.2) from o.2.2.2.1, List.length_map]
  have hgb : ∀ g0, gx G g0 → gx G (sG g.2.1 b d (su.1 0) sc σ g0) := fun g0 h => gx_blk o.2.2.2.2.2.1.2.1 h
  have hG : gJK g L0 A s.heap (sG g.2.1 b d (su.1 0) sc σ G) sz H [] := by
    rw [hid]
    exact hG
  unfold c_X1_message at h
  refine lv_iload_n hx hb dX1_message_0 rfl (lv_at hl 1 rfl) ?_
  refine lv_i2l hx hb dX1_message_1 rfl ?_
  refine lv_lconst (v := 0) hx hb dX1_message_2 (by decide) ?_
  refine lv_aload_n hx hb dX1_message_3 rfl (lv_at hl 0 rfl) ?_
  refine g_get hF hG hfx.rd (C := RX1) (T := TX1) (N := 7) rfl in_X1 4 (by decide) q754 (fun _ h => h) (v := .ref b) rfl dX1_message_4 ?_
  refine g_getN hF hG sG_0 (C := RX2) (T := TX2) (N := 26) rfl in_X2 9 (by decide) q607 (fun _ h => h) (v := .ref (b + d + 14)) rfl dX1_message_7 ?_
  refine g_getN hF hG sG_14 (C := RX5) (T := TX5) (N := 5) rfl in_X5 3 (by decide) q575 (fun _ h => h) (v := .int (σ.1 32)) rfl dX1_message_10 ?_
  refine lv_iconst (v := 1) hx hb dX1_message_13 (by decide) ?_
  refine lv_isub hx hb dX1_message_14 ?_
  refine lv_i2l hx hb dX1_message_15 rfl ?_
  refine kx_in q1029 hF hG hl (Nat.le_of_ble_eq_true rfl) (Nat.le_of_ble_eq_true rfl) h ⟨Nat.le_of_ble_eq_true rfl, Nat.le_of_ble_eq_true rfl⟩ (Nat.le_of_ble_eq_true rfl) dX1_message_16 (fun v1 H locs h hG => ?_)
  refine kx_chk3 q1032 hst hF hQ hnt hG hl (Nat.le_of_ble_eq_true rfl) (Nat.le_of_ble_eq_true rfl) h ⟨Nat.le_of_ble_eq_true rfl, Nat.le_of_ble_eq_true rfl⟩ ⟨Nat.le_of_ble_eq_true rfl, Nat.le_of_ble_eq_true rfl⟩ (Nat.le_of_ble_eq_true rfl) dX1_message_19 (fun h => ?_) (fun h H locs hG => ?_)
  · have h := Option.some.inj h
    subst h
    exact fun _ => ⟨3, rfl, rfl, (hgb _ gx_rfl)⟩
  · refine lv_aload_n hx hb dX1_message_22 rfl (lv_at hl 0 rfl) ?_
    refine g_get hF hG hfx.rd (C := RX1) (T := TX1) (N := 7) rfl in_X1 4 (by decide) q754 (fun _ h => h) (v := .ref b) rfl dX1_message_23 ?_
    refine g_getN hF hG sG_0 (C := RX2) (T := TX2) (N := 26) rfl in_X2 9 (by decide) q607 (fun _ h => h) (v := .ref (b + d + 14)) rfl dX1_message_26 ?_
    refine g_getN hF hG sG_14 (C := RX5) (T := TX5) (N := 5) rfl in_X5 0 (by decide) q568 (fun _ h => h) (v := .ref (b + d + 15)) rfl dX1_message_29 ?_
    refine lv_iload_n hx hb dX1_message_32 rfl (lv_at hl 1 rfl) ?_
    refine s_rd hF hG (j := 15) (by decide) h dX1_message_33 (fun v2 h => ?_)
    refine lv_istore_n hx hb dX1_message_34 rfl hl (Nat.le_of_ble_eq_true rfl) (lv' := [(3, .int v2), (0, .ref x), (1, .int p0), (2, .int p1)]) rfl (fun ls hl => ?_)
    refine lv_iload_n hx hb dX1_message_35 rfl (lv_at hl 3 rfl) ?_
    rcases gb_if h with ⟨c1, h⟩ | ⟨c1, h⟩
    · refine gb_tabIn hx hb dX1_message_36 c1 (by decide) (by decide) rfl (tgt := 64) (by decide) ?_
      refine lv_iload_n hx hb dX1_message_64 rfl (lv_at hl 0 rfl) ?_
      refine lv_sipush (v := 256) hx hb dX1_message_65 (by decide) ?_
      refine lv_idiv hx hb dX1_message_68 (by decide) ?_
      refine lv_goto hx hb dX1_message_69 (tgt := 99) (by decide) ?_
      have h := Option.some.inj h
      subst h
      exact hret _ _ _ _ _ (g_iret hQ' hG ⟨_, rfl, rfl, (hgb _ gx_rfl)⟩ (Nat.le_of_ble_eq_true rfl) (Nat.le_of_ble_eq_true rfl) dX1_message_99)
    rcases gb_if h with ⟨c2, h⟩ | ⟨c2, h⟩
    · refine gb_tabIn hx hb dX1_message_36 c2 (by decide) (by decide) rfl (tgt := 72) (by decide) ?_
      refine lv_iload_n hx hb dX1_message_72 rfl (lv_at hl 0 rfl) ?_
      refine lv_bipush (v := 16) hx hb dX1_message_73 (by decide) ?_
      refine lv_idiv hx hb dX1_message_75 (by decide) ?_
      refine lv_bipush (v := 16) hx hb dX1_message_76 (by decide) ?_
      refine lv_irem hx hb dX1_message_78 (by decide) ?_
      refine lv_goto hx hb dX1_message_79 (tgt := 99) (by decide) ?_
      have h := Option.some.inj h
      subst h
      exact hret _ _ _ _ _ (g_iret hQ' hG ⟨_, rfl, rfl, (hgb _ gx_rfl)⟩ (Nat.le_of_ble_eq_true rfl) (Nat.le_of_ble_eq_true rfl) dX1_message_99)
    rcases gb_if h with ⟨c3, h⟩ | ⟨c3, h⟩
    · refine gb_tabIn hx hb dX1_message_36 c3 (by decide) (by decide) rfl (tgt := 82) (by decide) ?_
      refine lv_iload_n hx hb dX1_message_82 rfl (lv_at hl 0 rfl) ?_
      refine lv_bipush (v := 16) hx hb dX1_message_83 (by decide) ?_
      refine lv_irem hx hb dX1_message_85 (by decide) ?_
      refine lv_iconst (v := 1) hx hb dX1_message_86 (by decide) ?_
      refine lv_isub hx hb dX1_message_87 ?_
      refine lv_goto hx hb dX1_message_88 (tgt := 99) (by decide) ?_
      have h := Option.some.inj h
      subst h
      exact hret _ _ _ _ _ (g_iret hQ' hG ⟨_, rfl, rfl, (hgb _ gx_rfl)⟩ (Nat.le_of_ble_eq_true rfl) (Nat.le_of_ble_eq_true rfl) dX1_message_99)
    refine lv_tableOut hx hb dX1_message_36 ?_ (tgt := 91) (by decide) ?_
    · have e1 := lv_neT c1 (a := 0) (by decide)
      have e2 := lv_neT c2 (a := 1) (by decide)
      have e3 := lv_neT c3 (a := 2) (by decide)
      omega
    have h := Option.some.inj h
    subst h
    exact g_throw0 hst hF hQ hnt hG hl ex_ok1 ⟨by decide, by decide⟩ q1455 q91 (fun _ => ⟨1, rfl, rfl, (hgb _ gx_rfl)⟩) dX1_message_91 dX1_message_94 dX1_message_95 dX1_message_98 (Nat.le_of_ble_eq_true rfl) (Nat.le_of_ble_eq_true rfl) ⟨Nat.le_of_ble_eq_true rfl, Nat.le_of_ble_eq_true rfl⟩ (Nat.le_of_ble_eq_true rfl) (Nat.le_of_ble_eq_true rfl)
/-! X1_traffic -/
def c_X1_traffic (σ : SS) (p0 : Int32) (p1 : Int32) : Option (Nat ⊕ Int32) :=
ob1 (j_X1_in (p0.toInt64) 0 5) fun (v1 : Int32) =>
if v1 = 0 then (
some (Sum.inl 1))
else (
if p1 = 0 then (
ob1 (S_rd σ 16 p0) fun (v2 : Int32) =>
some (Sum.inr v2))
else (
ob1 (S_rd σ 17 p0) fun (v3 : Int32) =>
some (Sum.inr v3)))
set_option maxRecDepth 100000 in
theorem w_X1_traffic {l : Launch} (hst : l.stackTraces = false) {g : gNum} {L0 x b d sz hn : Nat} {su : SU} {sc : SC} {σ : SS} {iv by_ : Nat → Int32} {hi : List SS} {so : Nat → Option SS} {G : GH} (hX : XW g.2.1 L0 x (su, sc, σ, iv, by_, hi, so) b d G) (hhn : hi.length = hn) {p0 : Int32} {p1 : Int32} {out : Nat ⊕ Int32} (h : c_X1_traffic σ p0 p1 = some out) : gMetX l yX1_traffic (ws_ yX1_traffic cX1_traffic 3 (some .int)) g.1 clX L0 (gK g) [.ref x, .int p0, .int p1] G sz 9 110 1 6 (fun v G' n => ∃ r, out = .inr r ∧ v = some (.int r) ∧ gx G G') (fun E _ G' => ∃ k, out = .inl k ∧ E = exN k ∧ gx G G') := by
  refine gMetX.of (own := RX1) (gK_ok g) (by decide +kernel) (Nat.le_of_ble_eq_true rfl) rfl ?_
  intro p e R s m args below meth c A Q ls H hF hQ hnt hG hl
  obtain ⟨Q', hQ', hret⟩ := gx_ret hQ
  have hx := hF.1.1
  have hb := hF.1.2.1
  have hts := hF.1.2.2.2.2
  have hl : lv_has ls 3 [(0, .ref x), (1, .int p0), (2, .int p1)] := hl
  obtain ⟨bb, hd, he, sl, f, h9, t9, Bs, S, o⟩ := hX
  obtain ⟨hid, hL0, hsu, hsc, hfx, hfb, hfh, hfe, hfs⟩ := o.use
  have hdq := o.2.2.1
  have hlen : (Bs.map (·.1.1)).length = hn := by rw [List.length_map, ← hhn, show hi = Bs.map (·.2) from o.2.2.2.1, List.length_map]
  have hgb : ∀ g0, gx G g0 → gx G (sG g.2.1 b d (su.1 0) sc σ g0) := fun g0 h => gx_blk o.2.2.2.2.2.1.2.1 h
  have hG : gJK g L0 A s.heap (sG g.2.1 b d (su.1 0) sc σ G) sz H [] := by
    rw [hid]
    exact hG
  unfold c_X1_traffic at h
  refine lv_iload_n hx hb dX1_traffic_0 rfl (lv_at hl 1 rfl) ?_
  refine lv_i2l hx hb dX1_traffic_1 rfl ?_
  refine lv_lconst (v := 0) hx hb dX1_traffic_2 (by decide) ?_
  refine lv_ldc2 (v := 5) hx hb hF.1.2.2.2.1 (hts _ q1566) dX1_traffic_3 ?_
  refine kx_in q1029 hF hG hl (Nat.le_of_ble_eq_true rfl) (Nat.le_of_ble_eq_true rfl) h ⟨Nat.le_of_ble_eq_true rfl, Nat.le_of_ble_eq_true rfl⟩ (Nat.le_of_ble_eq_true rfl) dX1_traffic_6 (fun v1 H locs h hG => ?_)
  refine kx_chk1 q1452 hst hF hQ hnt hG hl (Nat.le_of_ble_eq_true rfl) (Nat.le_of_ble_eq_true rfl) h ⟨Nat.le_of_ble_eq_true rfl, Nat.le_of_ble_eq_true rfl⟩ ⟨Nat.le_of_ble_eq_true rfl, Nat.le_of_ble_eq_true rfl⟩ (Nat.le_of_ble_eq_true rfl) dX1_traffic_9 (fun h => ?_) (fun h H locs hG => ?_)
  · have h := Option.some.inj h
    subst h
    exact fun _ => ⟨1, rfl, rfl, (hgb _ gx_rfl)⟩
  · refine lv_iload_n hx hb dX1_traffic_12 rfl (lv_at hl 2 rfl) ?_
    refine gb_if_eq hx hb dX1_traffic_13 (tgt := 31) (by decide) h (fun h => ?_) (fun h => ?_)
    · refine lv_aload_n hx hb dX1_traffic_31 rfl (lv_at hl 0 rfl) ?_
      refine g_get hF hG hfx.rd (C := RX1) (T := TX1) (N := 7) rfl in_X1 4 (by decide) q754 (fun _ h => h) (v := .ref b) rfl dX1_traffic_32 ?_
      refine g_getN hF hG sG_0 (C := RX2) (T := TX2) (N := 26) rfl in_X2 9 (by decide) q607 (fun _ h => h) (v := .ref (b + d + 14)) rfl dX1_traffic_35 ?_
      refine g_getN hF hG sG_14 (C := RX5) (T := TX5) (N := 5) rfl in_X5 1 (by decide) q570 (fun _ h => h) (v := .ref (b + d + 16)) rfl dX1_traffic_38 ?_
      refine lv_iload_n hx hb dX1_traffic_41 rfl (lv_at hl 1 rfl) ?_
      refine s_rd hF hG (j := 16) (by decide) h dX1_traffic_42 (fun v2 h => ?_)
      have h := Option.some.inj h
      subst h
      exact hret _ _ _ _ _ (g_iret hQ' hG ⟨_, rfl, rfl, (hgb _ gx_rfl)⟩ (Nat.le_of_ble_eq_true rfl) (Nat.le_of_ble_eq_true rfl) dX1_traffic_43)
    · refine lv_aload_n hx hb dX1_traffic_16 rfl (lv_at hl 0 rfl) ?_
      refine g_get hF hG hfx.rd (C := RX1) (T := TX1) (N := 7) rfl in_X1 4 (by decide) q754 (fun _ h => h) (v := .ref b) rfl dX1_traffic_17 ?_
      refine g_getN hF hG sG_0 (C := RX2) (T := TX2) (N := 26) rfl in_X2 9 (by decide) q607 (fun _ h => h) (v := .ref (b + d + 14)) rfl dX1_traffic_20 ?_
      refine g_getN hF hG sG_14 (C := RX5) (T := TX5) (N := 5) rfl in_X5 2 (by decide) q572 (fun _ h => h) (v := .ref (b + d + 17)) rfl dX1_traffic_23 ?_
      refine lv_iload_n hx hb dX1_traffic_26 rfl (lv_at hl 1 rfl) ?_
      refine s_rd hF hG (j := 17) (by decide) h dX1_traffic_27 (fun v3 h => ?_)
      refine lv_goto hx hb dX1_traffic_28 (tgt := 43) (by decide) ?_
      have h := Option.some.inj h
      subst h
      exact hret _ _ _ _ _ (g_iret hQ' hG ⟨_, rfl, rfl, (hgb _ gx_rfl)⟩ (Nat.le_of_ble_eq_true rfl) (Nat.le_of_ble_eq_true rfl) dX1_traffic_43)
/-! X1_learned -/
def c_X1_learned (σ : SS) (p0 : Int32) : Option (Nat ⊕ Int32) :=
ob1 (j_X1_in (p0.toInt64) 0 (((σ.1 30) - 1).toInt64)) fun (v1 : Int32) =>
if v1 = 0 then (
some (Sum.inl 3))
else (
ob1 (S_rd σ 10 p0) fun (v2 : Int32) =>
some (Sum.inr v2))
set_option maxRecDepth 100000 in
theorem w_X1_learned {l : Launch} (hst : l.stackTraces = false) {g : gNum} {L0 x b d sz hn : Nat} {su : SU} {sc : SC} {σ : SS} {iv by_ : Nat → Int32} {hi : List SS} {so : Nat → Option SS} {G : GH} (hX : XW g.2.1 L0 x (su, sc, σ, iv, by_, hi, so) b d G) (hhn : hi.length = hn) {p0 : Int32} {out : Nat ⊕ Int32} (h : c_X1_learned σ p0 = some out) : gMetX l yX1_learned (ws_ yX1_learned cX1_learned 2 (some .int)) g.1 clX L0 (gK g) [.ref x, .int p0] G sz 9 110 1 6 (fun v G' n => ∃ r, out = .inr r ∧ v = some (.int r) ∧ gx G G') (fun E _ G' => ∃ k, out = .inl k ∧ E = exN k ∧ gx G G') := by
  refine gMetX.of (own := RX1) (gK_ok g) (by decide +kernel) (Nat.le_of_ble_eq_true rfl) rfl ?_
  intro p e R s m args below meth c A Q ls H hF hQ hnt hG hl
  obtain ⟨Q', hQ', hret⟩ := gx_ret hQ
  have hx := hF.1.1
  have hb := hF.1.2.1
  have hts := hF.1.2.2.2.2
  have hl : lv_has ls 2 [(0, .ref x), (1, .int p0)] := hl
  obtain ⟨bb, hd, he, sl, f, h9, t9, Bs, S, o⟩ := hX
  obtain ⟨hid, hL0, hsu, hsc, hfx, hfb, hfh, hfe, hfs⟩ := o.use
  have hdq := o.2.2.1
  have hlen : (Bs.map (·.1.1)).length = hn := by rw [List.length_map, ← hhn, show hi = Bs.map (·.2) from o.2.2.2.1, List.length_map]
  have hgb : ∀ g0, gx G g0 → gx G (sG g.2.1 b d (su.1 0) sc σ g0) := fun g0 h => gx_blk o.2.2.2.2.2.1.2.1 h
  have hG : gJK g L0 A s.heap (sG g.2.1 b d (su.1 0) sc σ G) sz H [] := by
    rw [hid]
    exact hG
  unfold c_X1_learned at h
  refine lv_iload_n hx hb dX1_learned_0 rfl (lv_at hl 1 rfl) ?_
  refine lv_i2l hx hb dX1_learned_1 rfl ?_
  refine lv_lconst (v := 0) hx hb dX1_learned_2 (by decide) ?_
  refine lv_aload_n hx hb dX1_learned_3 rfl (lv_at hl 0 rfl) ?_
  refine g_get hF hG hfx.rd (C := RX1) (T := TX1) (N := 7) rfl in_X1 4 (by decide) q754 (fun _ h => h) (v := .ref b) rfl dX1_learned_4 ?_
  refine g_getN hF hG sG_0 (C := RX2) (T := TX2) (N := 26) rfl in_X2 10 (by decide) q609 (fun _ h => h) (v := .ref (b + d + 9)) rfl dX1_learned_7 ?_
  refine g_getN hF hG sG_9 (C := RX4) (T := TX4) (N := 2) rfl in_X4 1 (by decide) q554 (fun _ h => h) (v := .int (σ.1 30)) rfl dX1_learned_10 ?_
  refine lv_iconst (v := 1) hx hb dX1_learned_13 (by decide) ?_
  refine lv_isub hx hb dX1_learned_14 ?_
  refine lv_i2l hx hb dX1_learned_15 rfl ?_
  refine kx_in q1029 hF hG hl (Nat.le_of_ble_eq_true rfl) (Nat.le_of_ble_eq_true rfl) h ⟨Nat.le_of_ble_eq_true rfl, Nat.le_of_ble_eq_true rfl⟩ (Nat.le_of_ble_eq_true rfl) dX1_learned_16 (fun v1 H locs h hG => ?_)
  refine kx_chk3 q1032 hst hF hQ hnt hG hl (Nat.le_of_ble_eq_true rfl) (Nat.le_of_ble_eq_true rfl) h ⟨Nat.le_of_ble_eq_true rfl, Nat.le_of_ble_eq_true rfl⟩ ⟨Nat.le_of_ble_eq_true rfl, Nat.le_of_ble_eq_true rfl⟩ (Nat.le_of_ble_eq_true rfl) dX1_learned_19 (fun h => ?_) (fun h H locs hG => ?_)
  · have h := Option.some.inj h
    subst h
    exact fun _ => ⟨3, rfl, rfl, (hgb _ gx_rfl)⟩
  · refine lv_aload_n hx hb dX1_learned_22 rfl (lv_at hl 0 rfl) ?_
    refine g_get hF hG hfx.rd (C := RX1) (T := TX1) (N := 7) rfl in_X1 4 (by decide) q754 (fun _ h => h) (v := .ref b) rfl dX1_learned_23 ?_
    refine g_getN hF hG sG_0 (C := RX2) (T := TX2) (N := 26) rfl in_X2 10 (by decide) q609 (fun _ h => h) (v := .ref (b + d + 9)) rfl dX1_learned_26 ?_
    refine g_getN hF hG sG_9 (C := RX4) (T := TX4) (N := 2) rfl in_X4 0 (by decide) q550 (fun _ h => h) (v := .ref (b + d + 10)) rfl dX1_learned_29 ?_
    refine lv_iload_n hx hb dX1_learned_32 rfl (lv_at hl 1 rfl) ?_
    refine s_rd hF hG (j := 10) (by decide) h dX1_learned_33 (fun v2 h => ?_)
    have h := Option.some.inj h
    subst h
    exact hret _ _ _ _ _ (g_iret hQ' hG ⟨_, rfl, rfl, (hgb _ gx_rfl)⟩ (Nat.le_of_ble_eq_true rfl) (Nat.le_of_ble_eq_true rfl) dX1_learned_34)
/-! X1_known -/
def c_X1_known (su : SU) (σ : SS) (p0 : Int32) (p1 : Int32) : Option (Nat ⊕ Int32) :=
oe1 (ρ := Nat) (c_X1_outletAt su p0) (fun k => some (Sum.inl k)) fun (i1 : Nat) =>
if p1 = 0 then (
ob1 (S_rd σ 6 p0) fun (v3 : Int32) =>
some (Sum.inr v3))
else if p1 = 1 then (
ob1 (S_rd σ 7 p0) fun (v4 : Int32) =>
some (Sum.inr v4))
else if p1 = 2 then (
ob1 (c_X2_expected su σ p0) fun (v5 : Int32) =>
some (Sum.inr v5))
else if p1 = 3 then (
ob1 (c_X2_reserved_2 su σ p0) fun (v6 : Int32) =>
some (Sum.inr v6))
else if p1 = 4 then (
ob1 (j_X4_placeOf 0 p0 0 (σ.1 30) (σ.2 10)) fun (v7 : Int32) =>
some (Sum.inr v7))
else if p1 = 5 then (
ob1 (j_X1_has (σ.1 16) p0) fun (v8 : Int32) =>
if v8 = 0 then (
some (Sum.inr 0))
else (
some (Sum.inr 1)))
else (
some (Sum.inl 1))
set_option maxRecDepth 100000 in
theorem w_X1_known {l : Launch} (hst : l.stackTraces = false) {g : gNum} {L0 x b d sz hn : Nat} {su : SU} {sc : SC} {σ : SS} {iv by_ : Nat → Int32} {hi : List SS} {so : Nat → Option SS} {G : GH} (hX : XW g.2.1 L0 x (su, sc, σ, iv, by_, hi, so) b d G) (hhn : hi.length = hn) {p0 : Int32} {p1 : Int32} {out : Nat ⊕ Int32} (h : c_X1_known su σ p0 p1 = some out) : gMetX l yX1_known (ws_ yX1_known cX1_known 4 (some .int)) g.1 clX L0 (gK g) [.ref x, .int p0, .int p1] G sz 10 131 2 12 (fun v G' n => ∃ r, out = .inr r ∧ v = some (.int r) ∧ gx G G') (fun E _ G' => ∃ k, out = .inl k ∧ E = exN k ∧ gx G G') := by
  refine gMetX.of (own := RX1) (gK_ok g) (by decide +kernel) (Nat.le_of_ble_eq_true rfl) rfl ?_
  intro p e R s m args below meth c A Q ls H hF hQ hnt hG hl
  obtain ⟨Q', hQ', hret⟩ := gx_ret hQ
  have hx := hF.1.1
  have hb := hF.1.2.1
  have hts := hF.1.2.2.2.2
  have hl : lv_has ls 4 [(0, .ref x), (1, .int p0), (2, .int p1)] := hl
  obtain ⟨bb, hd, he, sl, f, h9, t9, Bs, S, o⟩ := hX
  obtain ⟨hid, hL0, hsu, hsc, hfx, hfb, hfh, hfe, hfs⟩ := o.use
  have hdq := o.2.2.1
  have hlen : (Bs.map (·.1.1)).length = hn := by rw [List.length_map, ← hhn, show hi = Bs.map (·.2) from o.2.2.2.1, List.length_map]
  have hgb : ∀ g0, gx G g0 → gx G (sG g.2.1 b d (su.1 0) sc σ g0) := fun g0 h => gx_blk o.2.2.2.2.2.1.2.1 h
  have hG : gJK g L0 A s.heap (sG g.2.1 b d (su.1 0) sc σ G) sz H [] := by
    rw [hid]
    exact hG
  unfold c_X1_known at h
  refine lv_aload_n hx hb dX1_known_0 rfl (lv_at hl 0 rfl) ?_
  refine lv_iload_n hx hb dX1_known_1 rfl (lv_at hl 1 rfl) ?_
  refine kx_outletAt q1500 hst hF hQ hnt o hid hsu hfx hG hl (Nat.le_of_ble_eq_true rfl) (Nat.le_of_ble_eq_true rfl) h ⟨Nat.le_of_ble_eq_true rfl, Nat.le_of_ble_eq_true rfl⟩ ⟨Nat.le_of_ble_eq_true rfl, Nat.le_of_ble_eq_true rfl⟩ (Nat.le_of_ble_eq_true rfl) dX1_known_2 (fun k h => by
      have h := Option.some.inj h
      subst h
      exact fun _ => ⟨k, rfl, rfl, (hgb _ gx_rfl)⟩) (fun i1 n2 H locs hi_i1 h hG => ?_)
  refine lv_astore_n hx hb dX1_known_5 rfl hl (Nat.le_of_ble_eq_true rfl) (lv' := [(3, .ref (su.2.2.1 i1)), (0, .ref x), (1, .int p0), (2, .int p1)]) rfl (fun ls hl => ?_)
  refine lv_iload_n hx hb dX1_known_6 rfl (lv_at hl 3 rfl) ?_
  rcases gb_if h with ⟨c1, h⟩ | ⟨c1, h⟩
  · refine gb_tabIn hx hb dX1_known_7 c1 (by decide) (by decide) rfl (tgt := 44) (by decide) ?_
    refine lv_aload_n hx hb dX1_known_44 rfl (lv_at hl 1 rfl) ?_
    refine g_get hF hG hfx.rd (C := RX1) (T := TX1) (N := 7) rfl in_X1 4 (by decide) q754 (fun _ h => h) (v := .ref b) rfl dX1_known_45 ?_
    refine g_getN hF hG sG_0 (C := RX2) (T := TX2) (N := 26) rfl in_X2 6 (by decide) q601 (fun _ h => h) (v := .ref (b + d + 6)) rfl dX1_known_48 ?_
    refine lv_iload_n hx hb dX1_known_51 rfl (lv_at hl 2 rfl) ?_
    refine s_rd hF hG (j := 6) (by decide) h dX1_known_52 (fun v3 h => ?_)
    refine lv_goto hx hb dX1_known_53 (tgt := 134) (by decide) ?_
    have h := Option.some.inj h
    subst h
    exact hret _ _ _ _ _ (g_iret hQ' hG ⟨_, rfl, rfl, (hgb _ gx_rfl)⟩ (Nat.le_of_ble_eq_true rfl) (Nat.le_of_ble_eq_true rfl) dX1_known_134)
  rcases gb_if h with ⟨c2, h⟩ | ⟨c2, h⟩
  · refine gb_tabIn hx hb dX1_known_7 c2 (by decide) (by decide) rfl (tgt := 56) (by decide) ?_
    refine lv_aload_n hx hb dX1_known_56 rfl (lv_at hl 1 rfl) ?_
    refine g_get hF hG hfx.rd (C := RX1) (T := TX1) (N := 7) rfl in_X1 4 (by decide) q754 (fun _ h => h) (v := .ref b) rfl dX1_known_57 ?_
    refine g_getN hF hG sG_0 (C := RX2) (T := TX2) (N := 26) rfl in_X2 7 (by decide) q603 (fun _ h => h) (v := .ref (b + d + 7)) rfl dX1_known_60 ?_
    refine lv_iload_n hx hb dX1_known_63 rfl (lv_at hl 2 rfl) ?_
    refine s_rd hF hG (j := 7) (by decide) h dX1_known_64 (fun v4 h => ?_)
    refine lv_goto hx hb dX1_known_65 (tgt := 134) (by decide) ?_
    have h := Option.some.inj h
    subst h
    exact hret _ _ _ _ _ (g_iret hQ' hG ⟨_, rfl, rfl, (hgb _ gx_rfl)⟩ (Nat.le_of_ble_eq_true rfl) (Nat.le_of_ble_eq_true rfl) dX1_known_134)
  rcases gb_if h with ⟨c3, h⟩ | ⟨c3, h⟩
  · refine gb_tabIn hx hb dX1_known_7 c3 (by decide) (by decide) rfl (tgt := 68) (by decide) ?_
    refine lv_aload_n hx hb dX1_known_68 rfl (lv_at hl 1 rfl) ?_
    refine g_get hF hG hfx.rd (C := RX1) (T := TX1) (N := 7) rfl in_X1 4 (by decide) q754 (fun _ h => h) (v := .ref b) rfl dX1_known_69 ?_
    refine lv_iload_n hx hb dX1_known_72 rfl (lv_at hl 2 rfl) ?_
    refine k_X2_expected q1513 hF hL0 hsu hsc hG hl (Nat.le_of_ble_eq_true rfl) (Nat.le_of_ble_eq_true rfl) h ⟨Nat.le_of_ble_eq_true rfl, Nat.le_of_ble_eq_true rfl⟩ (Nat.le_of_ble_eq_true rfl) dX1_known_73 (fun v5 H locs h hG => ?_)
    refine lv_goto hx hb dX1_known_76 (tgt := 134) (by decide) ?_
    have h := Option.some.inj h
    subst h
    exact hret _ _ _ _ _ (g_iret hQ' hG ⟨_, rfl, rfl, (hgb _ gx_rfl)⟩ (Nat.le_of_ble_eq_true rfl) (Nat.le_of_ble_eq_true rfl) dX1_known_134)
  rcases gb_if h with ⟨c4, h⟩ | ⟨c4, h⟩
  · refine gb_tabIn hx hb dX1_known_7 c4 (by decide) (by decide) rfl (tgt := 79) (by decide) ?_
    refine lv_aload_n hx hb dX1_known_79 rfl (lv_at hl 1 rfl) ?_
    refine g_get hF hG hfx.rd (C := RX1) (T := TX1) (N := 7) rfl in_X1 4 (by decide) q754 (fun _ h => h) (v := .ref b) rfl dX1_known_80 ?_
    refine lv_iload_n hx hb dX1_known_83 rfl (lv_at hl 2 rfl) ?_
    refine k_X2_reserved_2 q1514 hF hL0 hsu hsc hG hl (Nat.le_of_ble_eq_true rfl) (Nat.le_of_ble_eq_true rfl) h ⟨Nat.le_of_ble_eq_true rfl, Nat.le_of_ble_eq_true rfl⟩ (Nat.le_of_ble_eq_true rfl) dX1_known_84 (fun v6 H locs h hG => ?_)
    refine lv_goto hx hb dX1_known_87 (tgt := 134) (by decide) ?_
    have h := Option.some.inj h
    subst h
    exact hret _ _ _ _ _ (g_iret hQ' hG ⟨_, rfl, rfl, (hgb _ gx_rfl)⟩ (Nat.le_of_ble_eq_true rfl) (Nat.le_of_ble_eq_true rfl) dX1_known_134)
  rcases gb_if h with ⟨c5, h⟩ | ⟨c5, h⟩
  · refine gb_tabIn hx hb dX1_known_7 c5 (by decide) (by decide) rfl (tgt := 90) (by decide) ?_
    refine lv_aload_n hx hb dX1_known_90 rfl (lv_at hl 1 rfl) ?_
    refine g_get hF hG hfx.rd (C := RX1) (T := TX1) (N := 7) rfl in_X1 4 (by decide) q754 (fun _ h => h) (v := .ref b) rfl dX1_known_91 ?_
    refine g_getN hF hG sG_0 (C := RX2) (T := TX2) (N := 26) rfl in_X2 10 (by decide) q609 (fun _ h => h) (v := .ref (b + d + 9)) rfl dX1_known_94 ?_
    refine lv_iload_n hx hb dX1_known_97 rfl (lv_at hl 2 rfl) ?_
    refine ks_place9 q1515 hF hG hl (Nat.le_of_ble_eq_true rfl) (Nat.le_of_ble_eq_true rfl) h ⟨Nat.le_of_ble_eq_true rfl, Nat.le_of_ble_eq_true rfl⟩ (Nat.le_of_ble_eq_true rfl) dX1_known_98 (fun v7 H locs h hG => ?_)
    refine lv_goto hx hb dX1_known_101 (tgt := 134) (by decide) ?_
    have h := Option.some.inj h
    subst h
    exact hret _ _ _ _ _ (g_iret hQ' hG ⟨_, rfl, rfl, (hgb _ gx_rfl)⟩ (Nat.le_of_ble_eq_true rfl) (Nat.le_of_ble_eq_true rfl) dX1_known_134)
  rcases gb_if h with ⟨c6, h⟩ | ⟨c6, h⟩
  · refine gb_tabIn hx hb dX1_known_7 c6 (by decide) (by decide) rfl (tgt := 104) (by decide) ?_
    refine lv_aload_n hx hb dX1_known_104 rfl (lv_at hl 1 rfl) ?_
    refine g_get hF hG hfx.rd (C := RX1) (T := TX1) (N := 7) rfl in_X1 4 (by decide) q754 (fun _ h => h) (v := .ref b) rfl dX1_known_105 ?_
    refine g_getN hF hG sG_0 (C := RX2) (T := TX2) (N := 26) rfl in_X2 16 (by decide) q617 (fun _ h => h) (v := .int (σ.1 16)) rfl dX1_known_108 ?_
    refine lv_iload_n hx hb dX1_known_111 rfl (lv_at hl 2 rfl) ?_
    refine kx_has q1505 hF hG hl (Nat.le_of_ble_eq_true rfl) (Nat.le_of_ble_eq_true rfl) h ⟨Nat.le_of_ble_eq_true rfl, Nat.le_of_ble_eq_true rfl⟩ (Nat.le_of_ble_eq_true rfl) dX1_known_112 (fun v8 H locs h hG => ?_)
    refine gb_if_eq hx hb dX1_known_115 (tgt := 122) (by decide) h (fun h => ?_) (fun h => ?_)
    · refine lv_iconst (v := 0) hx hb dX1_known_122 (by decide) ?_
      refine lv_goto hx hb dX1_known_123 (tgt := 134) (by decide) ?_
      have h := Option.some.inj h
      subst h
      exact hret _ _ _ _ _ (g_iret hQ' hG ⟨_, rfl, rfl, (hgb _ gx_rfl)⟩ (Nat.le_of_ble_eq_true rfl) (Nat.le_of_ble_eq_true rfl) dX1_known_134)
    · refine lv_iconst (v := 1) hx hb dX1_known_118 (by decide) ?_
      refine lv_goto hx hb dX1_known_119 (tgt := 134) (by decide) ?_
      have h := Option.some.inj h
      subst h
      exact hret _ _ _ _ _ (g_iret hQ' hG ⟨_, rfl, rfl, (hgb _ gx_rfl)⟩ (Nat.le_of_ble_eq_true rfl) (Nat.le_of_ble_eq_true rfl) dX1_known_134)
  refine lv_tableOut hx hb dX1_known_7 ?_ (tgt := 126) (by decide) ?_
  · have e1 := lv_neT c1 (a := 0) (by decide)
    have e2 := lv_neT c2 (a := 1) (by decide)
    have e3 := lv_neT c3 (a := 2) (by decide)
    have e4 := lv_neT c4 (a := 3) (by decide)
    have e5 := lv_neT c5 (a := 4) (by decide)
    have e6 := lv_neT c6 (a := 5) (by decide)
    omega
  have h := Option.some.inj h
  subst h
  exact g_throw0 hst hF hQ hnt hG hl ex_ok1 ⟨by decide, by decide⟩ q1455 q91 (fun _ => ⟨1, rfl, rfl, (hgb _ gx_rfl)⟩) dX1_known_126 dX1_known_129 dX1_known_130 dX1_known_133 (Nat.le_of_ble_eq_true rfl) (Nat.le_of_ble_eq_true rfl) ⟨Nat.le_of_ble_eq_true rfl, Nat.le_of_ble_eq_true rfl⟩ (Nat.le_of_ble_eq_true rfl) (Nat.le_of_ble_eq_true rfl)
/-! X1_outlet -/
def c_X1_outlet (su : SU) (σ : SS) (p0 : Int32) (p1 : Int32) : Option (Nat ⊕ Int32) :=
oe1 (ρ := Nat) (c_X1_outletAt su p0) (fun k => some (Sum.inl k)) fun (i1 : Nat) =>
if p1 = 0 then (
some (Sum.inr (U_o su i1 1)))
else if p1 = 1 then (
some (Sum.inr (U_o su i1 2)))
else if p1 = 2 then (
some (Sum.inr (U_o su i1 3)))
else if p1 = 3 then (
some (Sum.inr (U_o su i1 4)))
else if p1 = 4 then (
ob1 (S_rd σ 8 p0) fun (v3 : Int32) =>
some (Sum.inr v3))
else if p1 = 5 then (
ob1 (j_X1_has (σ.1 13) p0) fun (v4 : Int32) =>
if v4 = 0 then (
some (Sum.inr 0))
else (
some (Sum.inr 1)))
else if p1 = 6 then (
ob1 (S_rd σ 1 p0) fun (v5 : Int32) =>
some (Sum.inr v5))
else if p1 = 7 then (
ob1 (S_rd σ 2 p0) fun (v6 : Int32) =>
some (Sum.inr v6))
else if p1 = 8 then (
ob1 (S_rd σ 3 p0) fun (v7 : Int32) =>
some (Sum.inr v7))
else if p1 = 9 then (
ob1 (S_rd σ 4 p0) fun (v8 : Int32) =>
some (Sum.inr v8))
else (
some (Sum.inl 1))
set_option maxRecDepth 100000 in
theorem w_X1_outlet {l : Launch} (hst : l.stackTraces = false) {g : gNum} {L0 x b d sz hn : Nat} {su : SU} {sc : SC} {σ : SS} {iv by_ : Nat → Int32} {hi : List SS} {so : Nat → Option SS} {G : GH} (hX : XW g.2.1 L0 x (su, sc, σ, iv, by_, hi, so) b d G) (hhn : hi.length = hn) {p0 : Int32} {p1 : Int32} {out : Nat ⊕ Int32} (h : c_X1_outlet su σ p0 p1 = some out) : gMetX l yX1_outlet (ws_ yX1_outlet cX1_outlet 4 (some .int)) g.1 clX L0 (gK g) [.ref x, .int p0, .int p1] G sz 10 131 2 12 (fun v G' n => ∃ r, out = .inr r ∧ v = some (.int r) ∧ gx G G') (fun E _ G' => ∃ k, out = .inl k ∧ E = exN k ∧ gx G G') := by
  refine gMetX.of (own := RX1) (gK_ok g) (by decide +kernel) (Nat.le_of_ble_eq_true rfl) rfl ?_
  intro p e R s m args below meth c A Q ls H hF hQ hnt hG hl
  obtain ⟨Q', hQ', hret⟩ := gx_ret hQ
  have hx := hF.1.1
  have hb := hF.1.2.1
  have hts := hF.1.2.2.2.2
  have hl : lv_has ls 4 [(0, .ref x), (1, .int p0), (2, .int p1)] := hl
  obtain ⟨bb, hd, he, sl, f, h9, t9, Bs, S, o⟩ := hX
  obtain ⟨hid, hL0, hsu, hsc, hfx, hfb, hfh, hfe, hfs⟩ := o.use
  have hdq := o.2.2.1
  have hlen : (Bs.map (·.1.1)).length = hn := by rw [List.length_map, ← hhn, show hi = Bs.map (·.2) from o.2.2.2.1, List.length_map]
  have hgb : ∀ g0, gx G g0 → gx G (sG g.2.1 b d (su.1 0) sc σ g0) := fun g0 h => gx_blk o.2.2.2.2.2.1.2.1 h
  have hG : gJK g L0 A s.heap (sG g.2.1 b d (su.1 0) sc σ G) sz H [] := by
    rw [hid]
    exact hG
  unfold c_X1_outlet at h
  refine lv_aload_n hx hb dX1_outlet_0 rfl (lv_at hl 0 rfl) ?_
  refine lv_iload_n hx hb dX1_outlet_1 rfl (lv_at hl 1 rfl) ?_
  refine kx_outletAt q1500 hst hF hQ hnt o hid hsu hfx hG hl (Nat.le_of_ble_eq_true rfl) (Nat.le_of_ble_eq_true rfl) h ⟨Nat.le_of_ble_eq_true rfl, Nat.le_of_ble_eq_true rfl⟩ ⟨Nat.le_of_ble_eq_true rfl, Nat.le_of_ble_eq_true rfl⟩ (Nat.le_of_ble_eq_true rfl) dX1_outlet_2 (fun k h => by
      have h := Option.some.inj h
      subst h
      exact fun _ => ⟨k, rfl, rfl, (hgb _ gx_rfl)⟩) (fun i1 n2 H locs hi_i1 h hG => ?_)
  refine lv_astore_n hx hb dX1_outlet_5 rfl hl (Nat.le_of_ble_eq_true rfl) (lv' := [(3, .ref (su.2.2.1 i1)), (0, .ref x), (1, .int p0), (2, .int p1)]) rfl (fun ls hl => ?_)
  refine lv_iload_n hx hb dX1_outlet_6 rfl (lv_at hl 3 rfl) ?_
  rcases gb_if h with ⟨c1, h⟩ | ⟨c1, h⟩
  · refine gb_tabIn hx hb dX1_outlet_7 c1 (by decide) (by decide) rfl (tgt := 60) (by decide) ?_
    refine lv_aload_n hx hb dX1_outlet_60 rfl (lv_at hl 0 rfl) ?_
    refine ks_out hF (su_of hsu) hG hi_i1 1 (by decide) rfl q1242 dX1_outlet_61 ?_
    refine lv_goto hx hb dX1_outlet_64 (tgt := 178) (by decide) ?_
    have h := Option.some.inj h
    subst h
    exact hret _ _ _ _ _ (g_iret hQ' hG ⟨_, rfl, rfl, (hgb _ gx_rfl)⟩ (Nat.le_of_ble_eq_true rfl) (Nat.le_of_ble_eq_true rfl) dX1_outlet_178)
  rcases gb_if h with ⟨c2, h⟩ | ⟨c2, h⟩
  · refine gb_tabIn hx hb dX1_outlet_7 c2 (by decide) (by decide) rfl (tgt := 67) (by decide) ?_
    refine lv_aload_n hx hb dX1_outlet_67 rfl (lv_at hl 0 rfl) ?_
    refine ks_out hF (su_of hsu) hG hi_i1 2 (by decide) rfl q1245 dX1_outlet_68 ?_
    refine lv_goto hx hb dX1_outlet_71 (tgt := 178) (by decide) ?_
    have h := Option.some.inj h
    subst h
    exact hret _ _ _ _ _ (g_iret hQ' hG ⟨_, rfl, rfl, (hgb _ gx_rfl)⟩ (Nat.le_of_ble_eq_true rfl) (Nat.le_of_ble_eq_true rfl) dX1_outlet_178)
  rcases gb_if h with ⟨c3, h⟩ | ⟨c3, h⟩
  · refine gb_tabIn hx hb dX1_outlet_7 c3 (by decide) (by decide) rfl (tgt := 74) (by decide) ?_
    refine lv_aload_n hx hb dX1_outlet_74 rfl (lv_at hl 0 rfl) ?_
    refine ks_out hF (su_of hsu) hG hi_i1 3 (by decide) rfl q1248 dX1_outlet_75 ?_
    refine lv_goto hx hb dX1_outlet_78 (tgt := 178) (by decide) ?_
    have h := Option.some.inj h
    subst h
    exact hret _ _ _ _ _ (g_iret hQ' hG ⟨_, rfl, rfl, (hgb _ gx_rfl)⟩ (Nat.le_of_ble_eq_true rfl) (Nat.le_of_ble_eq_true rfl) dX1_outlet_178)
  rcases gb_if h with ⟨c4, h⟩ | ⟨c4, h⟩
  · refine gb_tabIn hx hb dX1_outlet_7 c4 (by decide) (by decide) rfl (tgt := 81) (by decide) ?_
    refine lv_aload_n hx hb dX1_outlet_81 rfl (lv_at hl 0 rfl) ?_
    refine ks_out hF (su_of hsu) hG hi_i1 4 (by decide) rfl q1250 dX1_outlet_82 ?_
    refine lv_goto hx hb dX1_outlet_85 (tgt := 178) (by decide) ?_
    have h := Option.some.inj h
    subst h
    exact hret _ _ _ _ _ (g_iret hQ' hG ⟨_, rfl, rfl, (hgb _ gx_rfl)⟩ (Nat.le_of_ble_eq_true rfl) (Nat.le_of_ble_eq_true rfl) dX1_outlet_178)
  rcases gb_if h with ⟨c5, h⟩ | ⟨c5, h⟩
  · refine gb_tabIn hx hb dX1_outlet_7 c5 (by decide) (by decide) rfl (tgt := 88) (by decide) ?_
    refine lv_aload_n hx hb dX1_outlet_88 rfl (lv_at hl 1 rfl) ?_
    refine g_get hF hG hfx.rd (C := RX1) (T := TX1) (N := 7) rfl in_X1 4 (by decide) q754 (fun _ h => h) (v := .ref b) rfl dX1_outlet_89 ?_
    refine g_getN hF hG sG_0 (C := RX2) (T := TX2) (N := 26) rfl in_X2 8 (by decide) q605 (fun _ h => h) (v := .ref (b + d + 8)) rfl dX1_outlet_92 ?_
    refine lv_iload_n hx hb dX1_outlet_95 rfl (lv_at hl 2 rfl) ?_
    refine s_rd hF hG (j := 8) (by decide) h dX1_outlet_96 (fun v3 h => ?_)
    refine lv_goto hx hb dX1_outlet_97 (tgt := 178) (by decide) ?_
    have h := Option.some.inj h
    subst h
    exact hret _ _ _ _ _ (g_iret hQ' hG ⟨_, rfl, rfl, (hgb _ gx_rfl)⟩ (Nat.le_of_ble_eq_true rfl) (Nat.le_of_ble_eq_true rfl) dX1_outlet_178)
  rcases gb_if h with ⟨c6, h⟩ | ⟨c6, h⟩
  · refine gb_tabIn hx hb dX1_outlet_7 c6 (by decide) (by decide) rfl (tgt := 100) (by decide) ?_
    refine lv_aload_n hx hb dX1_outlet_100 rfl (lv_at hl 1 rfl) ?_
    refine g_get hF hG hfx.rd (C := RX1) (T := TX1) (N := 7) rfl in_X1 4 (by decide) q754 (fun _ h => h) (v := .ref b) rfl dX1_outlet_101 ?_
    refine g_getN hF hG sG_0 (C := RX2) (T := TX2) (N := 26) rfl in_X2 13 (by decide) q613 (fun _ h => h) (v := .int (σ.1 13)) rfl dX1_outlet_104 ?_
    refine lv_iload_n hx hb dX1_outlet_107 rfl (lv_at hl 2 rfl) ?_
    refine kx_has q1505 hF hG hl (Nat.le_of_ble_eq_true rfl) (Nat.le_of_ble_eq_true rfl) h ⟨Nat.le_of_ble_eq_true rfl, Nat.le_of_ble_eq_true rfl⟩ (Nat.le_of_ble_eq_true rfl) dX1_outlet_108 (fun v4 H locs h hG => ?_)
    refine gb_if_eq hx hb dX1_outlet_111 (tgt := 118) (by decide) h (fun h => ?_) (fun h => ?_)
    · refine lv_iconst (v := 0) hx hb dX1_outlet_118 (by decide) ?_
      refine lv_goto hx hb dX1_outlet_119 (tgt := 178) (by decide) ?_
      have h := Option.some.inj h
      subst h
      exact hret _ _ _ _ _ (g_iret hQ' hG ⟨_, rfl, rfl, (hgb _ gx_rfl)⟩ (Nat.le_of_ble_eq_true rfl) (Nat.le_of_ble_eq_true rfl) dX1_outlet_178)
    · refine lv_iconst (v := 1) hx hb dX1_outlet_114 (by decide) ?_
      refine lv_goto hx hb dX1_outlet_115 (tgt := 178) (by decide) ?_
      have h := Option.some.inj h
      subst h
      exact hret _ _ _ _ _ (g_iret hQ' hG ⟨_, rfl, rfl, (hgb _ gx_rfl)⟩ (Nat.le_of_ble_eq_true rfl) (Nat.le_of_ble_eq_true rfl) dX1_outlet_178)
  rcases gb_if h with ⟨c7, h⟩ | ⟨c7, h⟩
  · refine gb_tabIn hx hb dX1_outlet_7 c7 (by decide) (by decide) rfl (tgt := 122) (by decide) ?_
    refine lv_aload_n hx hb dX1_outlet_122 rfl (lv_at hl 1 rfl) ?_
    refine g_get hF hG hfx.rd (C := RX1) (T := TX1) (N := 7) rfl in_X1 4 (by decide) q754 (fun _ h => h) (v := .ref b) rfl dX1_outlet_123 ?_
    refine g_getN hF hG sG_0 (C := RX2) (T := TX2) (N := 26) rfl in_X2 1 (by decide) q592 (fun _ h => h) (v := .ref (b + d + 1)) rfl dX1_outlet_126 ?_
    refine lv_iload_n hx hb dX1_outlet_129 rfl (lv_at hl 2 rfl) ?_
    refine s_rd hF hG (j := 1) (by decide) h dX1_outlet_130 (fun v5 h => ?_)
    refine lv_goto hx hb dX1_outlet_131 (tgt := 178) (by decide) ?_
    have h := Option.some.inj h
    subst h
    exact hret _ _ _ _ _ (g_iret hQ' hG ⟨_, rfl, rfl, (hgb _ gx_rfl)⟩ (Nat.le_of_ble_eq_true rfl) (Nat.le_of_ble_eq_true rfl) dX1_outlet_178)
  rcases gb_if h with ⟨c8, h⟩ | ⟨c8, h⟩
  · refine gb_tabIn hx hb dX1_outlet_7 c8 (by decide) (by decide) rfl (tgt := 134) (by decide) ?_
    refine lv_aload_n hx hb dX1_outlet_134 rfl (lv_at hl 1 rfl) ?_
    refine g_get hF hG hfx.rd (C := RX1) (T := TX1) (N := 7) rfl in_X1 4 (by decide) q754 (fun _ h => h) (v := .ref b) rfl dX1_outlet_135 ?_
    refine g_getN hF hG sG_0 (C := RX2) (T := TX2) (N := 26) rfl in_X2 2 (by decide) q594 (fun _ h => h) (v := .ref (b + d + 2)) rfl dX1_outlet_138 ?_
    refine lv_iload_n hx hb dX1_outlet_141 rfl (lv_at hl 2 rfl) ?_
    refine s_rd hF hG (j := 2) (by decide) h dX1_outlet_142 (fun v6 h => ?_)
    refine lv_goto hx hb dX1_outlet_143 (tgt := 178) (by decide) ?_
    have h := Option.some.inj h
    subst h
    exact hret _ _ _ _ _ (g_iret hQ' hG ⟨_, rfl, rfl, (hgb _ gx_rfl)⟩ (Nat.le_of_ble_eq_true rfl) (Nat.le_of_ble_eq_true rfl) dX1_outlet_178)
  rcases gb_if h with ⟨c9, h⟩ | ⟨c9, h⟩
  · refine gb_tabIn hx hb dX1_outlet_7 c9 (by decide) (by decide) rfl (tgt := 146) (by decide) ?_
    refine lv_aload_n hx hb dX1_outlet_146 rfl (lv_at hl 1 rfl) ?_
    refine g_get hF hG hfx.rd (C := RX1) (T := TX1) (N := 7) rfl in_X1 4 (by decide) q754 (fun _ h => h) (v := .ref b) rfl dX1_outlet_147 ?_
    refine g_getN hF hG sG_0 (C := RX2) (T := TX2) (N := 26) rfl in_X2 3 (by decide) q596 (fun _ h => h) (v := .ref (b + d + 3)) rfl dX1_outlet_150 ?_
    refine lv_iload_n hx hb dX1_outlet_153 rfl (lv_at hl 2 rfl) ?_
    refine s_rd hF hG (j := 3) (by decide) h dX1_outlet_154 (fun v7 h => ?_)
    refine lv_goto hx hb dX1_outlet_155 (tgt := 178) (by decide) ?_
    have h := Option.some.inj h
    subst h
    exact hret _ _ _ _ _ (g_iret hQ' hG ⟨_, rfl, rfl, (hgb _ gx_rfl)⟩ (Nat.le_of_ble_eq_true rfl) (Nat.le_of_ble_eq_true rfl) dX1_outlet_178)
  rcases gb_if h with ⟨c10, h⟩ | ⟨c10, h⟩
  · refine gb_tabIn hx hb dX1_outlet_7 c10 (by decide) (by decide) rfl (tgt := 158) (by decide) ?_
    refine lv_aload_n hx hb dX1_outlet_158 rfl (lv_at hl 1 rfl) ?_
    refine g_get hF hG hfx.rd (C := RX1) (T := TX1) (N := 7) rfl in_X1 4 (by decide) q754 (fun _ h => h) (v := .ref b) rfl dX1_outlet_159 ?_
    refine g_getN hF hG sG_0 (C := RX2) (T := TX2) (N := 26) rfl in_X2 4 (by decide) q598 (fun _ h => h) (v := .ref (b + d + 4)) rfl dX1_outlet_162 ?_
    refine lv_iload_n hx hb dX1_outlet_165 rfl (lv_at hl 2 rfl) ?_
    refine s_rd hF hG (j := 4) (by decide) h dX1_outlet_166 (fun v8 h => ?_)
    refine lv_goto hx hb dX1_outlet_167 (tgt := 178) (by decide) ?_
    have h := Option.some.inj h
    subst h
    exact hret _ _ _ _ _ (g_iret hQ' hG ⟨_, rfl, rfl, (hgb _ gx_rfl)⟩ (Nat.le_of_ble_eq_true rfl) (Nat.le_of_ble_eq_true rfl) dX1_outlet_178)
  refine lv_tableOut hx hb dX1_outlet_7 ?_ (tgt := 170) (by decide) ?_
  · have e1 := lv_neT c1 (a := 0) (by decide)
    have e2 := lv_neT c2 (a := 1) (by decide)
    have e3 := lv_neT c3 (a := 2) (by decide)
    have e4 := lv_neT c4 (a := 3) (by decide)
    have e5 := lv_neT c5 (a := 4) (by decide)
    have e6 := lv_neT c6 (a := 5) (by decide)
    have e7 := lv_neT c7 (a := 6) (by decide)
    have e8 := lv_neT c8 (a := 7) (by decide)
    have e9 := lv_neT c9 (a := 8) (by decide)
    have e10 := lv_neT c10 (a := 9) (by decide)
    omega
  have h := Option.some.inj h
  subst h
  exact g_throw0 hst hF hQ hnt hG hl ex_ok1 ⟨by decide, by decide⟩ q1455 q91 (fun _ => ⟨1, rfl, rfl, (hgb _ gx_rfl)⟩) dX1_outlet_170 dX1_outlet_173 dX1_outlet_174 dX1_outlet_177 (Nat.le_of_ble_eq_true rfl) (Nat.le_of_ble_eq_true rfl) ⟨Nat.le_of_ble_eq_true rfl, Nat.le_of_ble_eq_true rfl⟩ (Nat.le_of_ble_eq_true rfl) (Nat.le_of_ble_eq_true rfl)
/-! X1_count -/
def c_X1_count (su : SU) (σ : SS) (hn : Nat) (p0 : Int32) : Option (Nat ⊕ Int32) :=
if p0 = 0 then (
some (Sum.inr (U_n su)))
else if p0 = 1 then (
some (Sum.inr (su.2.1 4)))
else if p0 = 2 then (
some (Sum.inr (σ.1 19)))
else if p0 = 3 then (
ob1 (c_X2_isDark σ) fun (v1 : Int32) =>
if v1 = 0 then (
some (Sum.inr 1))
else (
some (Sum.inr 0)))
else if p0 = 4 then (
some (Sum.inr (σ.1 21)))
else if p0 = 5 then (
some (Sum.inr (σ.1 22)))
else if p0 = 6 then (
some (Sum.inr (σ.1 32)))
else if p0 = 7 then (
ob1 (j_X5_sum 0 (sL 16) (σ.2 16)) fun (v2 : Int32) =>
some (Sum.inr v2))
else if p0 = 8 then (
ob1 (j_X5_sum 0 (sL 17) (σ.2 17)) fun (v3 : Int32) =>
some (Sum.inr v3))
else if p0 = 9 then (
some (Sum.inr (σ.1 17)))
else if p0 = 10 then (
some (Sum.inr (σ.1 18)))
else if p0 = 11 then (
some (Sum.inr (su.2.1 6)))
else if p0 = 12 then (
if (σ.1 25) = 0 then (
some (Sum.inr 0))
else (
some (Sum.inr 1)))
else if p0 = 13 then (
some (Sum.inr (Int32.ofNat hn)))
else (
some (Sum.inl 1))
set_option maxRecDepth 100000 in
theorem w_X1_count {l : Launch} (hst : l.stackTraces = false) {g : gNum} {L0 x b d sz hn : Nat} {su : SU} {sc : SC} {σ : SS} {iv by_ : Nat → Int32} {hi : List SS} {so : Nat → Option SS} {G : GH} (hX : XW g.2.1 L0 x (su, sc, σ, iv, by_, hi, so) b d G) (hhn : hi.length = hn) {p0 : Int32} {out : Nat ⊕ Int32} (h : c_X1_count su σ hn p0 = some out) : gMetX l yX1_count (ws_ yX1_count cX1_count 2 (some .int)) g.1 clX L0 (gK g) [.ref x, .int p0] G sz 9 129 1 6 (fun v G' n => ∃ r, out = .inr r ∧ v = some (.int r) ∧ gx G G') (fun E _ G' => ∃ k, out = .inl k ∧ E = exN k ∧ gx G G') := by
  refine gMetX.of (own := RX1) (gK_ok g) (by decide +kernel) (Nat.le_of_ble_eq_true rfl) rfl ?_
  intro p e R s m args below meth c A Q ls H hF hQ hnt hG hl
  obtain ⟨Q', hQ', hret⟩ := gx_ret hQ
  have hx := hF.1.1
  have hb := hF.1.2.1
  have hts := hF.1.2.2.2.2
  have hl : lv_has ls 2 [(0, .ref x), (1, .int p0)] := hl
  obtain ⟨bb, hd, he, sl, f, h9, t9, Bs, S, o⟩ := hX
  obtain ⟨hid, hL0, hsu, hsc, hfx, hfb, hfh, hfe, hfs⟩ := o.use
  have hdq := o.2.2.1
  have hlen : (Bs.map (·.1.1)).length = hn := by rw [List.length_map, ← hhn, show hi = Bs.map (·.2) from o.2.2.2.1, List.length_map]
  have hgb : ∀ g0, gx G g0 → gx G (sG g.2.1 b d (su.1 0) sc σ g0) := fun g0 h => gx_blk o.2.2.2.2.2.1.2.1 h
  have hG : gJK g L0 A s.heap (sG g.2.1 b d (su.1 0) sc σ G) sz H [] := by
    rw [hid]
    exact hG
  unfold c_X1_count at h
  refine lv_iload_n hx hb dX1_count_0 rfl (lv_at hl 1 rfl) ?_
  rcases gb_if h with ⟨c1, h⟩ | ⟨c1, h⟩
  · refine gb_tabIn hx hb dX1_count_1 c1 (by decide) (by decide) rfl (tgt := 72) (by decide) ?_
    refine lv_aload_n hx hb dX1_count_72 rfl (lv_at hl 0 rfl) ?_
    refine g_get hF hG hfx.rd (C := RX1) (T := TX1) (N := 7) rfl in_X1 4 (by decide) q754 (fun _ h => h) (v := .ref b) rfl dX1_count_73 ?_
    refine g_getN hF hG sG_0 (C := RX2) (T := TX2) (N := 26) rfl in_X2 0 (by decide) q590 (fun _ h => h) (v := .ref (su.1 0)) rfl dX1_count_76 ?_
    refine ks_size q1460 hF (su_of hsu) hG hl (Nat.le_of_ble_eq_true rfl) (Nat.le_of_ble_eq_true rfl) ⟨Nat.le_of_ble_eq_true rfl, Nat.le_of_ble_eq_true rfl⟩ (Nat.le_of_ble_eq_true rfl) dX1_count_79 (fun H locs hG => ?_)
    refine lv_goto hx hb dX1_count_82 (tgt := 260) (by decide) ?_
    have h := Option.some.inj h
    subst h
    exact hret _ _ _ _ _ (g_iret hQ' hG ⟨_, rfl, rfl, (hgb _ gx_rfl)⟩ (Nat.le_of_ble_eq_true rfl) (Nat.le_of_ble_eq_true rfl) dX1_count_260)
  rcases gb_if h with ⟨c2, h⟩ | ⟨c2, h⟩
  · refine gb_tabIn hx hb dX1_count_1 c2 (by decide) (by decide) rfl (tgt := 85) (by decide) ?_
    refine lv_aload_n hx hb dX1_count_85 rfl (lv_at hl 0 rfl) ?_
    refine g_get hF hG hfx.rd (C := RX1) (T := TX1) (N := 7) rfl in_X1 4 (by decide) q754 (fun _ h => h) (v := .ref b) rfl dX1_count_86 ?_
    refine g_getN hF hG sG_0 (C := RX2) (T := TX2) (N := 26) rfl in_X2 0 (by decide) q590 (fun _ h => h) (v := .ref (su.1 0)) rfl dX1_count_89 ?_
    refine g_getN hF hG hsu.1.rd (C := RX3) (T := TX3) (N := 10) rfl in_X3 4 (by decide) q502 (fun _ h => h) (v := .int (su.2.1 4)) rfl dX1_count_92 ?_
    refine lv_goto hx hb dX1_count_95 (tgt := 260) (by decide) ?_
    have h := Option.some.inj h
    subst h
    exact hret _ _ _ _ _ (g_iret hQ' hG ⟨_, rfl, rfl, (hgb _ gx_rfl)⟩ (Nat.le_of_ble_eq_true rfl) (Nat.le_of_ble_eq_true rfl) dX1_count_260)
  rcases gb_if h with ⟨c3, h⟩ | ⟨c3, h⟩
  · refine gb_tabIn hx hb dX1_count_1 c3 (by decide) (by decide) rfl (tgt := 98) (by decide) ?_
    refine lv_aload_n hx hb dX1_count_98 rfl (lv_at hl 0 rfl) ?_
    refine g_get hF hG hfx.rd (C := RX1) (T := TX1) (N := 7) rfl in_X1 4 (by decide) q754 (fun _ h => h) (v := .ref b) rfl dX1_count_99 ?_
    refine g_getN hF hG sG_0 (C := RX2) (T := TX2) (N := 26) rfl in_X2 19 (by decide) q623 (fun _ h => h) (v := .int (σ.1 19)) rfl dX1_count_102 ?_
    refine lv_goto hx hb dX1_count_105 (tgt := 260) (by decide) ?_
    have h := Option.some.inj h
    subst h
    exact hret _ _ _ _ _ (g_iret hQ' hG ⟨_, rfl, rfl, (hgb _ gx_rfl)⟩ (Nat.le_of_ble_eq_true rfl) (Nat.le_of_ble_eq_true rfl) dX1_count_260)
  rcases gb_if h with ⟨c4, h⟩ | ⟨c4, h⟩
  · refine gb_tabIn hx hb dX1_count_1 c4 (by decide) (by decide) rfl (tgt := 108) (by decide) ?_
    refine lv_aload_n hx hb dX1_count_108 rfl (lv_at hl 0 rfl) ?_
    refine g_get hF hG hfx.rd (C := RX1) (T := TX1) (N := 7) rfl in_X1 4 (by decide) q754 (fun _ h => h) (v := .ref b) rfl dX1_count_109 ?_
    refine k_X2_isDark q1486 hF hL0 hsu hsc hG hl (Nat.le_of_ble_eq_true rfl) (Nat.le_of_ble_eq_true rfl) h ⟨Nat.le_of_ble_eq_true rfl, Nat.le_of_ble_eq_true rfl⟩ (Nat.le_of_ble_eq_true rfl) dX1_count_112 (fun v1 H locs h hG => ?_)
    refine gb_if_eq hx hb dX1_count_115 (tgt := 122) (by decide) h (fun h => ?_) (fun h => ?_)
    · refine lv_iconst (v := 1) hx hb dX1_count_122 (by decide) ?_
      refine lv_goto hx hb dX1_count_123 (tgt := 260) (by decide) ?_
      have h := Option.some.inj h
      subst h
      exact hret _ _ _ _ _ (g_iret hQ' hG ⟨_, rfl, rfl, (hgb _ gx_rfl)⟩ (Nat.le_of_ble_eq_true rfl) (Nat.le_of_ble_eq_true rfl) dX1_count_260)
    · refine lv_iconst (v := 0) hx hb dX1_count_118 (by decide) ?_
      refine lv_goto hx hb dX1_count_119 (tgt := 260) (by decide) ?_
      have h := Option.some.inj h
      subst h
      exact hret _ _ _ _ _ (g_iret hQ' hG ⟨_, rfl, rfl, (hgb _ gx_rfl)⟩ (Nat.le_of_ble_eq_true rfl) (Nat.le_of_ble_eq_true rfl) dX1_count_260)
  rcases gb_if h with ⟨c5, h⟩ | ⟨c5, h⟩
  · refine gb_tabIn hx hb dX1_count_1 c5 (by decide) (by decide) rfl (tgt := 126) (by decide) ?_
    refine lv_aload_n hx hb dX1_count_126 rfl (lv_at hl 0 rfl) ?_
    refine g_get hF hG hfx.rd (C := RX1) (T := TX1) (N := 7) rfl in_X1 4 (by decide) q754 (fun _ h => h) (v := .ref b) rfl dX1_count_127 ?_
    refine g_getN hF hG sG_0 (C := RX2) (T := TX2) (N := 26) rfl in_X2 21 (by decide) q627 (fun _ h => h) (v := .int (σ.1 21)) rfl dX1_count_130 ?_
    refine lv_goto hx hb dX1_count_133 (tgt := 260) (by decide) ?_
    have h := Option.some.inj h
    subst h
    exact hret _ _ _ _ _ (g_iret hQ' hG ⟨_, rfl, rfl, (hgb _ gx_rfl)⟩ (Nat.le_of_ble_eq_true rfl) (Nat.le_of_ble_eq_true rfl) dX1_count_260)
  rcases gb_if h with ⟨c6, h⟩ | ⟨c6, h⟩
  · refine gb_tabIn hx hb dX1_count_1 c6 (by decide) (by decide) rfl (tgt := 136) (by decide) ?_
    refine lv_aload_n hx hb dX1_count_136 rfl (lv_at hl 0 rfl) ?_
    refine g_get hF hG hfx.rd (C := RX1) (T := TX1) (N := 7) rfl in_X1 4 (by decide) q754 (fun _ h => h) (v := .ref b) rfl dX1_count_137 ?_
    refine g_getN hF hG sG_0 (C := RX2) (T := TX2) (N := 26) rfl in_X2 22 (by decide) q629 (fun _ h => h) (v := .int (σ.1 22)) rfl dX1_count_140 ?_
    refine lv_goto hx hb dX1_count_143 (tgt := 260) (by decide) ?_
    have h := Option.some.inj h
    subst h
    exact hret _ _ _ _ _ (g_iret hQ' hG ⟨_, rfl, rfl, (hgb _ gx_rfl)⟩ (Nat.le_of_ble_eq_true rfl) (Nat.le_of_ble_eq_true rfl) dX1_count_260)
  rcases gb_if h with ⟨c7, h⟩ | ⟨c7, h⟩
  · refine gb_tabIn hx hb dX1_count_1 c7 (by decide) (by decide) rfl (tgt := 146) (by decide) ?_
    refine lv_aload_n hx hb dX1_count_146 rfl (lv_at hl 0 rfl) ?_
    refine g_get hF hG hfx.rd (C := RX1) (T := TX1) (N := 7) rfl in_X1 4 (by decide) q754 (fun _ h => h) (v := .ref b) rfl dX1_count_147 ?_
    refine g_getN hF hG sG_0 (C := RX2) (T := TX2) (N := 26) rfl in_X2 9 (by decide) q607 (fun _ h => h) (v := .ref (b + d + 14)) rfl dX1_count_150 ?_
    refine g_getN hF hG sG_14 (C := RX5) (T := TX5) (N := 5) rfl in_X5 3 (by decide) q575 (fun _ h => h) (v := .int (σ.1 32)) rfl dX1_count_153 ?_
    refine lv_goto hx hb dX1_count_156 (tgt := 260) (by decide) ?_
    have h := Option.some.inj h
    subst h
    exact hret _ _ _ _ _ (g_iret hQ' hG ⟨_, rfl, rfl, (hgb _ gx_rfl)⟩ (Nat.le_of_ble_eq_true rfl) (Nat.le_of_ble_eq_true rfl) dX1_count_260)
  rcases gb_if h with ⟨c8, h⟩ | ⟨c8, h⟩
  · refine gb_tabIn hx hb dX1_count_1 c8 (by decide) (by decide) rfl (tgt := 159) (by decide) ?_
    refine lv_aload_n hx hb dX1_count_159 rfl (lv_at hl 0 rfl) ?_
    refine g_get hF hG hfx.rd (C := RX1) (T := TX1) (N := 7) rfl in_X1 4 (by decide) q754 (fun _ h => h) (v := .ref b) rfl dX1_count_160 ?_
    refine g_getN hF hG sG_0 (C := RX2) (T := TX2) (N := 26) rfl in_X2 9 (by decide) q607 (fun _ h => h) (v := .ref (b + d + 14)) rfl dX1_count_163 ?_
    refine g_getN hF hG sG_14 (C := RX5) (T := TX5) (N := 5) rfl in_X5 1 (by decide) q570 (fun _ h => h) (v := .ref (b + d + 16)) rfl dX1_count_166 ?_
    refine ks_sum q1490 hF hG hl (Nat.le_of_ble_eq_true rfl) (Nat.le_of_ble_eq_true rfl) (j := 16) (by decide) h ⟨Nat.le_of_ble_eq_true rfl, Nat.le_of_ble_eq_true rfl⟩ (Nat.le_of_ble_eq_true rfl) dX1_count_169 (fun v2 H locs h hG => ?_)
    refine lv_goto hx hb dX1_count_172 (tgt := 260) (by decide) ?_
    have h := Option.some.inj h
    subst h
    exact hret _ _ _ _ _ (g_iret hQ' hG ⟨_, rfl, rfl, (hgb _ gx_rfl)⟩ (Nat.le_of_ble_eq_true rfl) (Nat.le_of_ble_eq_true rfl) dX1_count_260)
  rcases gb_if h with ⟨c9, h⟩ | ⟨c9, h⟩
  · refine gb_tabIn hx hb dX1_count_1 c9 (by decide) (by decide) rfl (tgt := 175) (by decide) ?_
    refine lv_aload_n hx hb dX1_count_175 rfl (lv_at hl 0 rfl) ?_
    refine g_get hF hG hfx.rd (C := RX1) (T := TX1) (N := 7) rfl in_X1 4 (by decide) q754 (fun _ h => h) (v := .ref b) rfl dX1_count_176 ?_
    refine g_getN hF hG sG_0 (C := RX2) (T := TX2) (N := 26) rfl in_X2 9 (by decide) q607 (fun _ h => h) (v := .ref (b + d + 14)) rfl dX1_count_179 ?_
    refine g_getN hF hG sG_14 (C := RX5) (T := TX5) (N := 5) rfl in_X5 2 (by decide) q572 (fun _ h => h) (v := .ref (b + d + 17)) rfl dX1_count_182 ?_
    refine ks_sum q1490 hF hG hl (Nat.le_of_ble_eq_true rfl) (Nat.le_of_ble_eq_true rfl) (j := 17) (by decide) h ⟨Nat.le_of_ble_eq_true rfl, Nat.le_of_ble_eq_true rfl⟩ (Nat.le_of_ble_eq_true rfl) dX1_count_185 (fun v3 H locs h hG => ?_)
    refine lv_goto hx hb dX1_count_188 (tgt := 260) (by decide) ?_
    have h := Option.some.inj h
    subst h
    exact hret _ _ _ _ _ (g_iret hQ' hG ⟨_, rfl, rfl, (hgb _ gx_rfl)⟩ (Nat.le_of_ble_eq_true rfl) (Nat.le_of_ble_eq_true rfl) dX1_count_260)
  rcases gb_if h with ⟨c10, h⟩ | ⟨c10, h⟩
  · refine gb_tabIn hx hb dX1_count_1 c10 (by decide) (by decide) rfl (tgt := 191) (by decide) ?_
    refine lv_aload_n hx hb dX1_count_191 rfl (lv_at hl 0 rfl) ?_
    refine g_get hF hG hfx.rd (C := RX1) (T := TX1) (N := 7) rfl in_X1 4 (by decide) q754 (fun _ h => h) (v := .ref b) rfl dX1_count_192 ?_
    refine g_getN hF hG sG_0 (C := RX2) (T := TX2) (N := 26) rfl in_X2 17 (by decide) q619 (fun _ h => h) (v := .int (σ.1 17)) rfl dX1_count_195 ?_
    refine lv_goto hx hb dX1_count_198 (tgt := 260) (by decide) ?_
    have h := Option.some.inj h
    subst h
    exact hret _ _ _ _ _ (g_iret hQ' hG ⟨_, rfl, rfl, (hgb _ gx_rfl)⟩ (Nat.le_of_ble_eq_true rfl) (Nat.le_of_ble_eq_true rfl) dX1_count_260)
  rcases gb_if h with ⟨c11, h⟩ | ⟨c11, h⟩
  · refine gb_tabIn hx hb dX1_count_1 c11 (by decide) (by decide) rfl (tgt := 201) (by decide) ?_
    refine lv_aload_n hx hb dX1_count_201 rfl (lv_at hl 0 rfl) ?_
    refine g_get hF hG hfx.rd (C := RX1) (T := TX1) (N := 7) rfl in_X1 4 (by decide) q754 (fun _ h => h) (v := .ref b) rfl dX1_count_202 ?_
    refine g_getN hF hG sG_0 (C := RX2) (T := TX2) (N := 26) rfl in_X2 18 (by decide) q621 (fun _ h => h) (v := .int (σ.1 18)) rfl dX1_count_205 ?_
    refine lv_goto hx hb dX1_count_208 (tgt := 260) (by decide) ?_
    have h := Option.some.inj h
    subst h
    exact hret _ _ _ _ _ (g_iret hQ' hG ⟨_, rfl, rfl, (hgb _ gx_rfl)⟩ (Nat.le_of_ble_eq_true rfl) (Nat.le_of_ble_eq_true rfl) dX1_count_260)
  rcases gb_if h with ⟨c12, h⟩ | ⟨c12, h⟩
  · refine gb_tabIn hx hb dX1_count_1 c12 (by decide) (by decide) rfl (tgt := 211) (by decide) ?_
    refine lv_aload_n hx hb dX1_count_211 rfl (lv_at hl 0 rfl) ?_
    refine g_get hF hG hfx.rd (C := RX1) (T := TX1) (N := 7) rfl in_X1 4 (by decide) q754 (fun _ h => h) (v := .ref b) rfl dX1_count_212 ?_
    refine g_getN hF hG sG_0 (C := RX2) (T := TX2) (N := 26) rfl in_X2 0 (by decide) q590 (fun _ h => h) (v := .ref (su.1 0)) rfl dX1_count_215 ?_
    refine g_getN hF hG hsu.1.rd (C := RX3) (T := TX3) (N := 10) rfl in_X3 6 (by decide) q506 (fun _ h => h) (v := .int (su.2.1 6)) rfl dX1_count_218 ?_
    refine lv_goto hx hb dX1_count_221 (tgt := 260) (by decide) ?_
    have h := Option.some.inj h
    subst h
    exact hret _ _ _ _ _ (g_iret hQ' hG ⟨_, rfl, rfl, (hgb _ gx_rfl)⟩ (Nat.le_of_ble_eq_true rfl) (Nat.le_of_ble_eq_true rfl) dX1_count_260)
  rcases gb_if h with ⟨c13, h⟩ | ⟨c13, h⟩
  · refine gb_tabIn hx hb dX1_count_1 c13 (by decide) (by decide) rfl (tgt := 224) (by decide) ?_
    refine lv_aload_n hx hb dX1_count_224 rfl (lv_at hl 0 rfl) ?_
    refine g_get hF hG hfx.rd (C := RX1) (T := TX1) (N := 7) rfl in_X1 4 (by decide) q754 (fun _ h => h) (v := .ref b) rfl dX1_count_225 ?_
    refine g_getN hF hG sG_0 (C := RX2) (T := TX2) (N := 26) rfl in_X2 25 (by decide) q635 (fun _ h => h) (v := .int (σ.1 25)) rfl dX1_count_228 ?_
    refine gb_if_eq hx hb dX1_count_231 (tgt := 238) (by decide) h (fun h => ?_) (fun h => ?_)
    · refine lv_iconst (v := 0) hx hb dX1_count_238 (by decide) ?_
      refine lv_goto hx hb dX1_count_239 (tgt := 260) (by decide) ?_
      have h := Option.some.inj h
      subst h
      exact hret _ _ _ _ _ (g_iret hQ' hG ⟨_, rfl, rfl, (hgb _ gx_rfl)⟩ (Nat.le_of_ble_eq_true rfl) (Nat.le_of_ble_eq_true rfl) dX1_count_260)
    · refine lv_iconst (v := 1) hx hb dX1_count_234 (by decide) ?_
      refine lv_goto hx hb dX1_count_235 (tgt := 260) (by decide) ?_
      have h := Option.some.inj h
      subst h
      exact hret _ _ _ _ _ (g_iret hQ' hG ⟨_, rfl, rfl, (hgb _ gx_rfl)⟩ (Nat.le_of_ble_eq_true rfl) (Nat.le_of_ble_eq_true rfl) dX1_count_260)
  rcases gb_if h with ⟨c14, h⟩ | ⟨c14, h⟩
  · refine gb_tabIn hx hb dX1_count_1 c14 (by decide) (by decide) rfl (tgt := 242) (by decide) ?_
    refine lv_aload_n hx hb dX1_count_242 rfl (lv_at hl 0 rfl) ?_
    refine g_get hF hG hfx.rd (C := RX1) (T := TX1) (N := 7) rfl in_X1 5 (by decide) q755 (fun _ h => h) (v := .ref hd) rfl dX1_count_243 ?_
    refine kx_hsz q845 hF hG hl hfh.rd hfe.rd hdq (Nat.le_of_ble_eq_true rfl) (Nat.le_of_ble_eq_true rfl) ⟨Nat.le_of_ble_eq_true rfl, Nat.le_of_ble_eq_true rfl⟩ (Nat.le_of_ble_eq_true rfl) dX1_count_246 (fun H locs hG => ?_)
    rw [hlen]
    refine lv_goto hx hb dX1_count_249 (tgt := 260) (by decide) ?_
    have h := Option.some.inj h
    subst h
    exact hret _ _ _ _ _ (g_iret hQ' hG ⟨_, rfl, rfl, (hgb _ gx_rfl)⟩ (Nat.le_of_ble_eq_true rfl) (Nat.le_of_ble_eq_true rfl) dX1_count_260)
  refine lv_tableOut hx hb dX1_count_1 ?_ (tgt := 252) (by decide) ?_
  · have e1 := lv_neT c1 (a := 0) (by decide)
    have e2 := lv_neT c2 (a := 1) (by decide)
    have e3 := lv_neT c3 (a := 2) (by decide)
    have e4 := lv_neT c4 (a := 3) (by decide)
    have e5 := lv_neT c5 (a := 4) (by decide)
    have e6 := lv_neT c6 (a := 5) (by decide)
    have e7 := lv_neT c7 (a := 6) (by decide)
    have e8 := lv_neT c8 (a := 7) (by decide)
    have e9 := lv_neT c9 (a := 8) (by decide)
    have e10 := lv_neT c10 (a := 9) (by decide)
    have e11 := lv_neT c11 (a := 10) (by decide)
    have e12 := lv_neT c12 (a := 11) (by decide)
    have e13 := lv_neT c13 (a := 12) (by decide)
    have e14 := lv_neT c14 (a := 13) (by decide)
    omega
  have h := Option.some.inj h
  subst h
  exact g_throw0 hst hF hQ hnt hG hl ex_ok1 ⟨by decide, by decide⟩ q1455 q91 (fun _ => ⟨1, rfl, rfl, (hgb _ gx_rfl)⟩) dX1_count_252 dX1_count_255 dX1_count_256 dX1_count_259 (Nat.le_of_ble_eq_true rfl) (Nat.le_of_ble_eq_true rfl) ⟨Nat.le_of_ble_eq_true rfl, Nat.le_of_ble_eq_true rfl⟩ (Nat.le_of_ble_eq_true rfl) (Nat.le_of_ble_eq_true rfl)
/-! X1_grants -/
def c_X1_grants_L7 (r4 : OS) : Nat → Int32 → Int32 → Option (Int32)
  | 0, _, _ => none
  | n + 1, y8, y9 =>
    if r4.2 ≤ y9 then (
    some y8)
    else (
    ob1 (rdF 12 r4.1 y9) fun (v10 : Int32) =>
    nm (y8 ||| (1 <<< (v10 &&& 31))) fun (x11 : Int32) =>
    nm (y9 + 1) fun (x12 : Int32) =>
    c_X1_grants_L7 r4 n x11 x12)
def c_X1_grants (su : SU) (σ : SS) : Option (Int32) :=
ob1 (c_X2_granted su σ) fun (r4 : OS) =>
ob1 (
c_X1_grants_L7 r4 4096 0 0) fun (z13 : Int32) =>
some z13
set_option maxRecDepth 100000 in
theorem w_X1_grants {l : Launch} {g : gNum} {L0 x b d sz hn : Nat} {su : SU} {sc : SC} {σ : SS} {iv by_ : Nat → Int32} {hi : List SS} {so : Nat → Option SS} {G : GH} (hX : XW g.2.1 L0 x (su, sc, σ, iv, by_, hi, so) b d G) (hhn : hi.length = hn) {out : Int32} (h : c_X1_grants su σ = some out) : gMet l yX1_grants (ws_ yX1_grants cX1_grants 4 (some .int)) g.1 clX L0 (gK g) [.ref x] G sz 8 174 2 14 (fun v G' n => v = some (.int out) ∧ gx G G') := by
  refine gMet.of (own := RX1) (gK_ok g) (by decide +kernel) (Nat.le_of_ble_eq_true rfl) rfl ?_
  intro p e R s m args below meth c A Q ls H hF hQ hin hG hl
  have hx := hF.1.1
  have hb := hF.1.2.1
  have hts := hF.1.2.2.2.2
  have hl : lv_has ls 4 [(0, .ref x)] := hl
  obtain ⟨bb, hd, he, sl, f, h9, t9, Bs, S, o⟩ := hX
  obtain ⟨hid, hL0, hsu, hsc, hfx, hfb, hfh, hfe, hfs⟩ := o.use
  have hdq := o.2.2.1
  have hlen : (Bs.map (·.1.1)).length = hn := by rw [List.length_map, ← hhn, show hi = Bs.map (·.2) from o.2.2.2.1, List.length_map]
  have hgb : ∀ g0, gx G g0 → gx G (sG g.2.1 b d (su.1 0) sc σ g0) := fun g0 h => gx_blk o.2.2.2.2.2.1.2.1 h
  have hG : gJK g L0 A s.heap (sG g.2.1 b d (su.1 0) sc σ G) sz H [] := by
    rw [hid]
    exact hG
  unfold c_X1_grants at h
  refine lv_aload_n hx hb dX1_grants_0 rfl (lv_at hl 0 rfl) ?_
  refine g_get hF hG hfx.rd (C := RX1) (T := TX1) (N := 7) rfl in_X1 4 (by decide) q754 (fun _ h => h) (v := .ref b) rfl dX1_grants_1 ?_
  refine k_X2_granted q800 hF hL0 hsu hsc hG hl (Nat.le_of_ble_eq_true rfl) (Nat.le_of_ble_eq_true rfl) h ⟨Nat.le_of_ble_eq_true rfl, Nat.le_of_ble_eq_true rfl⟩ (Nat.le_of_ble_eq_true rfl) dX1_grants_4 (fun r4 a5 G1 n2 H locs hx3 ho6_0 ho6_1 h hG => ?_)
  have hsu := hsu.ext hx3
  have hsc := hsc.ext hx3
  have hgx := (gx_rfl (G := G)).tr hx3
  refine lv_astore_n hx hb dX1_grants_7 rfl hl (Nat.le_of_ble_eq_true rfl) (lv' := [(1, .ref a5), (0, .ref x)]) rfl (fun ls hl => ?_)
  refine lv_iconst (v := 0) hx hb dX1_grants_8 (by decide) ?_
  refine lv_istore_n hx hb dX1_grants_9 rfl hl (Nat.le_of_ble_eq_true rfl) (lv' := [(2, .int 0), (1, .ref a5), (0, .ref x)]) rfl (fun ls hl => ?_)
  refine lv_iconst (v := 0) hx hb dX1_grants_10 (by decide) ?_
  refine lv_istore_n hx hb dX1_grants_11 rfl hl (Nat.le_of_ble_eq_true rfl) (lv' := [(3, .int 0), (2, .int 0), (1, .ref a5), (0, .ref x)]) rfl (fun ls hl => ?_)
  obtain ⟨X1, h, hJ1⟩ := ob1_u h
  have J1 : ∀ (z13 : Int32), X1 = z13 → ∀ (H : Heap) (locs : List Loc) (ls : Array Slot), gJK g L0 A s.heap (sG g.2.1 b d (su.1 0) sc σ G1) n2 H locs → lv_has ls 4 [(2, .int z13)] → W p l e R s m args below meth c H locs 2 14 Q (F0 m 37 ls []) := by
    intro z13 e0 H locs ls hG hl
    have h := hJ1 z13 e0
    refine lv_iload_n hx hb dX1_grants_37 rfl (lv_at hl 0 rfl) ?_
    have h := Option.some.inj h
    subst h
    exact g_iret hQ hG ⟨rfl, (hgb _ hgx)⟩ (Nat.le_of_ble_eq_true rfl) (Nat.le_of_ble_eq_true rfl) dX1_grants_38
  have LL7 : ∀ (n : Nat) (y8 : Int32) (y9 : Int32), c_X1_grants_L7 r4 n y8 y9 = some X1 → ∀ (H : Heap) (locs : List Loc) (ls : Array Slot), gJK g L0 A s.heap (sG g.2.1 b d (su.1 0) sc σ G1) n2 H locs → lv_has ls 4 [(1, .ref a5), (2, .int y8), (3, .int y9)] → W p l e R s m args below meth c H locs 2 14 Q (F0 m 12 ls []) := by
    intro n
    induction n with
    | zero =>
      intro y8 y9 h
      rw [c_X1_grants_L7] at h
      cases h
    | succ n ihL7 =>
      intro y8 y9 h H locs ls hG hl
      rw [c_X1_grants_L7] at h
      refine lv_iload_n hx hb dX1_grants_12 rfl (lv_at hl 2 rfl) ?_
      refine lv_aload_n hx hb dX1_grants_13 rfl (lv_at hl 0 rfl) ?_
      refine g_getN hF hG ho6_0.rd (C := RX4) (T := TX4) (N := 2) rfl in_X4 1 (by decide) q554 (fun _ h => h) (v := .int r4.2) rfl dX1_grants_14 ?_
      refine gb_icmp_ge hx hb dX1_grants_17 (tgt := 37) (by decide) h (fun h => ?_) (fun h => ?_)
      · exact J1 _ (Option.some.inj h).symm _ _ _ hG (lv_sub hl [1] rfl)
      · refine lv_iload_n hx hb dX1_grants_20 rfl (lv_at hl 1 rfl) ?_
        refine lv_iconst (v := 1) hx hb dX1_grants_21 (by decide) ?_
        refine lv_aload_n hx hb dX1_grants_22 rfl (lv_at hl 0 rfl) ?_
        refine g_getN hF hG ho6_0.rd (C := RX4) (T := TX4) (N := 2) rfl in_X4 0 (by decide) q550 (fun _ h => h) (v := .ref (a5 + 1)) rfl dX1_grants_23 ?_
        refine lv_iload_n hx hb dX1_grants_26 rfl (lv_at hl 2 rfl) ?_
        refine c_iald hF hG ho6_1.rd h dX1_grants_27 (fun v10 h => ?_)
        refine lv_ishl hx hb dX1_grants_28 ?_
        refine lv_ior hx hb dX1_grants_29 ?_
        refine gb_nm h (fun x11 h => ?_)
        refine lv_istore_n hx hb dX1_grants_30 rfl hl (Nat.le_of_ble_eq_true rfl) (lv' := [(2, .int x11), (1, .ref a5), (3, .int y9)]) rfl (fun ls hl => ?_)
        refine gb_iinc (k' := 1) hx hb dX1_grants_31 hl (k := 2) rfl (by decide) (Nat.le_of_ble_eq_true rfl) h (fun x12 ls h hl => ?_)
        have hl : lv_has ls 4 [(3, .int x12), (2, .int x11), (1, .ref a5)] := hl
        refine lv_goto hx hb dX1_grants_34 (tgt := 12) (by decide) ?_
        exact ihL7 _ _ h _ _ _ hG (lv_sub hl [2, 1, 0] rfl)
  exact LL7 _ _ _ h _ _ _ hG (lv_sub hl [2, 1, 0] rfl)
theorem kx_grants {f : Nat → Option Nat} {h9 t9 : Int32} {Bs : List (BA × SS)} {S : Nat → Option (BA × SS)} {bb hd he sl : Nat} {iv by_ : Nat → Int32} {hi : List SS} {so : Nat → Option SS} (hq : (Cond.methodLink own index yX1_grants) ∈ lw_all) (hF : gXK p m c cc nL s args own g A R rm) (o9 : XO g.2.1 L0 x (su, sc, σ, iv, by_, hi, so) b d G bb hd he sl f h9 t9 Bs S) (hid : sG g.2.1 b d (su.1 0) sc σ G = G) (hsu : suOK g.2.1 su b d G) (hfx : suAt b d G x (.inr (0, xV bb b hd sl iv))) (hG : gJK g L0 A s.heap (sG g.2.1 b d (su.1 0) sc σ G) n H locs) (hl : lv_has ls nL lv) (r1 : 8 + 1 ≤ rm.frames) (r2 : 8 + (4 + 11) + 174 ≤ rm.locals) {F : Int32 → Option γ} (h : ob1 (c_X1_grants su σ) F = some o) (hc : cells + 2 ≤ rm.cells ∧ slots + 14 ≤ rm.slots) (hW : (rest.map fun v => v.category).sum ≤ 8) (hdg : decode cc pc = .ok (.invokevirtual index, 3))
    (kk : ∀ (r : Int32) (G1 : GH) (n1 : Nat) (H1 : Heap) (locs1 : List Loc), gx G G1 → F r = some o → gJK g L0 A s.heap (sG g.2.1 b d (su.1 0) sc σ G1) n1 H1 locs1 → W p l e R s m args below meth c H1 locs1 (cells + 2) (slots + 14) Q (F0 m (pc + 3) ls (.int r :: rest))) : W p l e R s m args below meth c H locs cells slots Q (F0 m pc ls (.ref x :: rest)) := by
  rw [hid] at hG
  have hX : XW g.2.1 L0 x (su, sc, σ, iv, by_, hi, so) b d G := ⟨bb, hd, he, sl, f, h9, t9, Bs, S, o9⟩
  obtain ⟨r, hr, h⟩ := ob1_e h
  refine g_callV hF hG hl hfx.1 (C := RX1) (T := TX1) (N := 7) rfl (w_X1_grants (sz := n) hX rfl hr) (cwV 0 hF.1.2.2.2.2 (lw_V hq q797 q798 q82 q799) rfl rfl rfl (by decide +kernel) (g_room hF r1 r2)) rfl rfl hW hdg (hfA hF.2.2.2.2 hc) (fun v' G1 n1 H1 locs1 hR hG1 => ?_)
  obtain ⟨rfl, h5⟩ := hR
  rw [← sG_id (o9.2.2.2.2.2.1.2.1.ext h5)] at hG1
  exact kk r G1 n1 H1 locs1 h5 h hG1
/-! X1_why -/
def c_X1_why (su : SU) (σ : SS) (p0 : Int32) : Option (Nat ⊕ Int32) :=
oe1 (ρ := Nat) (c_X1_outletAt su p0) (fun k => some (Sum.inl k)) fun (i1 : Nat) =>
ob1 (j_X1_has (σ.1 13) p0) fun (v3 : Int32) =>
if v3 = 0 then (
some (Sum.inr 1))
else (
ob1 (S_rd σ 1 p0) fun (v4 : Int32) =>
if v4 < 2 then (
ob1 (c_X2_isDark σ) fun (v5 : Int32) =>
if v5 = 0 then (
ob1 (S_rd σ 6 p0) fun (v6 : Int32) =>
if v6 = 1 then (
ob1 (U_need su p0) fun (v7 : Int32) =>
ob1 (c_X2_withMark su σ 3) fun (v8 : Int32) =>
if (v7 &&& (v8 ^^^ (-1))) = 0 then (
ob1 (c_X2_expected su σ p0) fun (v9 : Int32) =>
if v9 ≤ (σ.1 17) then (
ob1 (c_X1_grants su σ) fun (v10 : Int32) =>
ob1 (j_X1_has v10 p0) fun (v14 : Int32) =>
if v14 = 0 then (
some (Sum.inr 7))
else (
some (Sum.inr 0)))
else (
some (Sum.inr 6)))
else (
some (Sum.inr 5)))
else (
some (Sum.inr 4)))
else (
some (Sum.inr 3)))
else (
some (Sum.inr 2)))
set_option maxRecDepth 100000 in
theorem w_X1_why {l : Launch} (hst : l.stackTraces = false) {g : gNum} {L0 x b d sz hn : Nat} {su : SU} {sc : SC} {σ : SS} {iv by_ : Nat → Int32} {hi : List SS} {so : Nat → Option SS} {G : GH} (hX : XW g.2.1 L0 x (su, sc, σ, iv, by_, hi, so) b d G) (hhn : hi.length = hn) {p0 : Int32} {out : Nat ⊕ Int32} (h : c_X1_why su σ p0 = some out) : gMetX l yX1_why (ws_ yX1_why cX1_why 3 (some .int)) g.1 clX L0 (gK g) [.ref x, .int p0] G sz 10 197 3 20 (fun v G' n => ∃ r, out = .inr r ∧ v = some (.int r) ∧ gx G G') (fun E _ G' => ∃ k, out = .inl k ∧ E = exN k ∧ gx G G') := by
  refine gMetX.of (own := RX1) (gK_ok g) (by decide +kernel) (Nat.le_of_ble_eq_true rfl) rfl ?_
  intro p e R s m args below meth c A Q ls H hF hQ hnt hG hl
  obtain ⟨Q', hQ', hret⟩ := gx_ret hQ
  have hx := hF.1.1
  have hb := hF.1.2.1
  have hts := hF.1.2.2.2.2
  have hl : lv_has ls 3 [(0, .ref x), (1, .int p0)] := hl
  obtain ⟨bb, hd, he, sl, f, h9, t9, Bs, S, o⟩ := hX
  obtain ⟨hid, hL0, hsu, hsc, hfx, hfb, hfh, hfe, hfs⟩ := o.use
  have hdq := o.2.2.1
  have hlen : (Bs.map (·.1.1)).length = hn := by rw [List.length_map, ← hhn, show hi = Bs.map (·.2) from o.2.2.2.1, List.length_map]
  have hgb : ∀ g0, gx G g0 → gx G (sG g.2.1 b d (su.1 0) sc σ g0) := fun g0 h => gx_blk o.2.2.2.2.2.1.2.1 h
  have hG : gJK g L0 A s.heap (sG g.2.1 b d (su.1 0) sc σ G) sz H [] := by
    rw [hid]
    exact hG
  unfold c_X1_why at h
  refine lv_aload_n hx hb dX1_why_0 rfl (lv_at hl 0 rfl) ?_
  refine lv_iload_n hx hb dX1_why_1 rfl (lv_at hl 1 rfl) ?_
  refine kx_outletAt q1500 hst hF hQ hnt o hid hsu hfx hG hl (Nat.le_of_ble_eq_true rfl) (Nat.le_of_ble_eq_true rfl) h ⟨Nat.le_of_ble_eq_true rfl, Nat.le_of_ble_eq_true rfl⟩ ⟨Nat.le_of_ble_eq_true rfl, Nat.le_of_ble_eq_true rfl⟩ (Nat.le_of_ble_eq_true rfl) dX1_why_2 (fun k h => by
      have h := Option.some.inj h
      subst h
      exact fun _ => ⟨k, rfl, rfl, (hgb _ gx_rfl)⟩) (fun i1 n2 H locs hi_i1 h hG => ?_)
  refine lv_astore_n hx hb dX1_why_5 rfl hl (Nat.le_of_ble_eq_true rfl) (lv' := [(2, .ref (su.2.2.1 i1)), (0, .ref x), (1, .int p0)]) rfl (fun ls hl => ?_)
  refine lv_aload_n hx hb dX1_why_6 rfl (lv_at hl 1 rfl) ?_
  refine g_get hF hG hfx.rd (C := RX1) (T := TX1) (N := 7) rfl in_X1 4 (by decide) q754 (fun _ h => h) (v := .ref b) rfl dX1_why_7 ?_
  refine g_getN hF hG sG_0 (C := RX2) (T := TX2) (N := 26) rfl in_X2 13 (by decide) q613 (fun _ h => h) (v := .int (σ.1 13)) rfl dX1_why_10 ?_
  refine lv_iload_n hx hb dX1_why_13 rfl (lv_at hl 2 rfl) ?_
  refine kx_has q1505 hF hG hl (Nat.le_of_ble_eq_true rfl) (Nat.le_of_ble_eq_true rfl) h ⟨Nat.le_of_ble_eq_true rfl, Nat.le_of_ble_eq_true rfl⟩ (Nat.le_of_ble_eq_true rfl) dX1_why_14 (fun v3 H locs h hG => ?_)
  refine gb_if_ne hx hb dX1_why_17 (tgt := 22) (by decide) h (fun h => ?_) (fun h => ?_)
  · refine lv_aload_n hx hb dX1_why_22 rfl (lv_at hl 1 rfl) ?_
    refine g_get hF hG hfx.rd (C := RX1) (T := TX1) (N := 7) rfl in_X1 4 (by decide) q754 (fun _ h => h) (v := .ref b) rfl dX1_why_23 ?_
    refine g_getN hF hG sG_0 (C := RX2) (T := TX2) (N := 26) rfl in_X2 1 (by decide) q592 (fun _ h => h) (v := .ref (b + d + 1)) rfl dX1_why_26 ?_
    refine lv_iload_n hx hb dX1_why_29 rfl (lv_at hl 2 rfl) ?_
    refine s_rd hF hG (j := 1) (by decide) h dX1_why_30 (fun v4 h => ?_)
    refine lv_iconst (v := 2) hx hb dX1_why_31 (by decide) ?_
    refine gb_icmp_lt hx hb dX1_why_32 (tgt := 37) (by decide) h (fun h => ?_) (fun h => ?_)
    · refine lv_aload_n hx hb dX1_why_37 rfl (lv_at hl 1 rfl) ?_
      refine g_get hF hG hfx.rd (C := RX1) (T := TX1) (N := 7) rfl in_X1 4 (by decide) q754 (fun _ h => h) (v := .ref b) rfl dX1_why_38 ?_
      refine k_X2_isDark q1486 hF hL0 hsu hsc hG hl (Nat.le_of_ble_eq_true rfl) (Nat.le_of_ble_eq_true rfl) h ⟨Nat.le_of_ble_eq_true rfl, Nat.le_of_ble_eq_true rfl⟩ (Nat.le_of_ble_eq_true rfl) dX1_why_41 (fun v5 H locs h hG => ?_)
      refine gb_if_eq hx hb dX1_why_44 (tgt := 49) (by decide) h (fun h => ?_) (fun h => ?_)
      · refine lv_aload_n hx hb dX1_why_49 rfl (lv_at hl 1 rfl) ?_
        refine g_get hF hG hfx.rd (C := RX1) (T := TX1) (N := 7) rfl in_X1 4 (by decide) q754 (fun _ h => h) (v := .ref b) rfl dX1_why_50 ?_
        refine g_getN hF hG sG_0 (C := RX2) (T := TX2) (N := 26) rfl in_X2 6 (by decide) q601 (fun _ h => h) (v := .ref (b + d + 6)) rfl dX1_why_53 ?_
        refine lv_iload_n hx hb dX1_why_56 rfl (lv_at hl 2 rfl) ?_
        refine s_rd hF hG (j := 6) (by decide) h dX1_why_57 (fun v6 h => ?_)
        refine lv_iconst (v := 1) hx hb dX1_why_58 (by decide) ?_
        refine gb_icmp_eq hx hb dX1_why_59 (tgt := 64) (by decide) h (fun h => ?_) (fun h => ?_)
        · refine lv_aload_n hx hb dX1_why_64 rfl (lv_at hl 1 rfl) ?_
          refine g_get hF hG hfx.rd (C := RX1) (T := TX1) (N := 7) rfl in_X1 4 (by decide) q754 (fun _ h => h) (v := .ref b) rfl dX1_why_65 ?_
          refine g_getN hF hG sG_0 (C := RX2) (T := TX2) (N := 26) rfl in_X2 0 (by decide) q590 (fun _ h => h) (v := .ref (su.1 0)) rfl dX1_why_68 ?_
          refine g_getN hF hG hsu.1.rd (C := RX3) (T := TX3) (N := 10) rfl in_X3 2 (by decide) q497 (fun _ h => h) (v := .ref (su.1 3)) rfl dX1_why_71 ?_
          refine lv_iload_n hx hb dX1_why_74 rfl (lv_at hl 2 rfl) ?_
          refine ks_need hF (su_of hsu) hG h dX1_why_75 (fun v7 h => ?_)
          refine lv_aload_n hx hb dX1_why_76 rfl (lv_at hl 1 rfl) ?_
          refine g_get hF hG hfx.rd (C := RX1) (T := TX1) (N := 7) rfl in_X1 4 (by decide) q754 (fun _ h => h) (v := .ref b) rfl dX1_why_77 ?_
          refine lv_iconst (v := 3) hx hb dX1_why_80 (by decide) ?_
          refine k_X2_withMark q1531 hF hL0 hsu hsc hG hl (Nat.le_of_ble_eq_true rfl) (Nat.le_of_ble_eq_true rfl) h ⟨Nat.le_of_ble_eq_true rfl, Nat.le_of_ble_eq_true rfl⟩ (Nat.le_of_ble_eq_true rfl) dX1_why_81 (fun v8 H locs h hG => ?_)
          refine lv_iconst (v := (-1)) hx hb dX1_why_84 (by decide) ?_
          refine lv_ixor hx hb dX1_why_85 ?_
          refine lv_iand hx hb dX1_why_86 ?_
          refine gb_if_eq hx hb dX1_why_87 (tgt := 92) (by decide) h (fun h => ?_) (fun h => ?_)
          · refine lv_aload_n hx hb dX1_why_92 rfl (lv_at hl 1 rfl) ?_
            refine g_get hF hG hfx.rd (C := RX1) (T := TX1) (N := 7) rfl in_X1 4 (by decide) q754 (fun _ h => h) (v := .ref b) rfl dX1_why_93 ?_
            refine lv_iload_n hx hb dX1_why_96 rfl (lv_at hl 2 rfl) ?_
            refine k_X2_expected q1513 hF hL0 hsu hsc hG hl (Nat.le_of_ble_eq_true rfl) (Nat.le_of_ble_eq_true rfl) h ⟨Nat.le_of_ble_eq_true rfl, Nat.le_of_ble_eq_true rfl⟩ (Nat.le_of_ble_eq_true rfl) dX1_why_97 (fun v9 H locs h hG => ?_)
            refine lv_aload_n hx hb dX1_why_100 rfl (lv_at hl 1 rfl) ?_
            refine g_get hF hG hfx.rd (C := RX1) (T := TX1) (N := 7) rfl in_X1 4 (by decide) q754 (fun _ h => h) (v := .ref b) rfl dX1_why_101 ?_
            refine g_getN hF hG sG_0 (C := RX2) (T := TX2) (N := 26) rfl in_X2 17 (by decide) q619 (fun _ h => h) (v := .int (σ.1 17)) rfl dX1_why_104 ?_
            refine gb_icmp_le hx hb dX1_why_107 (tgt := 115) (by decide) h (fun h => ?_) (fun h => ?_)
            · refine lv_aload_n hx hb dX1_why_115 rfl (lv_at hl 1 rfl) ?_
              refine kx_grants q1581 hF o hid hsu hfx hG hl (Nat.le_of_ble_eq_true rfl) (Nat.le_of_ble_eq_true rfl) h ⟨Nat.le_of_ble_eq_true rfl, Nat.le_of_ble_eq_true rfl⟩ (Nat.le_of_ble_eq_true rfl) dX1_why_116 (fun v10 G11 n12 H locs hx13 h hG => ?_)
              have hgx := hx13
              refine lv_iload_n hx hb dX1_why_119 rfl (lv_at hl 2 rfl) ?_
              refine kx_has q1505 hF hG hl (Nat.le_of_ble_eq_true rfl) (Nat.le_of_ble_eq_true rfl) h ⟨Nat.le_of_ble_eq_true rfl, Nat.le_of_ble_eq_true rfl⟩ (Nat.le_of_ble_eq_true rfl) dX1_why_120 (fun v14 H locs h hG => ?_)
              refine gb_if_eq hx hb dX1_why_123 (tgt := 130) (by decide) h (fun h => ?_) (fun h => ?_)
              · refine lv_bipush (v := 7) hx hb dX1_why_130 (by decide) ?_
                have h := Option.some.inj h
                subst h
                exact hret _ _ _ _ _ (g_iret hQ' hG ⟨_, rfl, rfl, (hgb _ hgx)⟩ (Nat.le_of_ble_eq_true rfl) (Nat.le_of_ble_eq_true rfl) dX1_why_132)
              · refine lv_iconst (v := 0) hx hb dX1_why_126 (by decide) ?_
                refine lv_goto hx hb dX1_why_127 (tgt := 132) (by decide) ?_
                have h := Option.some.inj h
                subst h
                exact hret _ _ _ _ _ (g_iret hQ' hG ⟨_, rfl, rfl, (hgb _ hgx)⟩ (Nat.le_of_ble_eq_true rfl) (Nat.le_of_ble_eq_true rfl) dX1_why_132)
            · refine lv_bipush (v := 6) hx hb dX1_why_110 (by decide) ?_
              refine lv_goto hx hb dX1_why_112 (tgt := 132) (by decide) ?_
              have h := Option.some.inj h
              subst h
              exact hret _ _ _ _ _ (g_iret hQ' hG ⟨_, rfl, rfl, (hgb _ gx_rfl)⟩ (Nat.le_of_ble_eq_true rfl) (Nat.le_of_ble_eq_true rfl) dX1_why_132)
          · refine lv_iconst (v := 5) hx hb dX1_why_90 (by decide) ?_
            have h := Option.some.inj h
            subst h
            exact hret _ _ _ _ _ (g_iret hQ' hG ⟨_, rfl, rfl, (hgb _ gx_rfl)⟩ (Nat.le_of_ble_eq_true rfl) (Nat.le_of_ble_eq_true rfl) dX1_why_91)
        · refine lv_iconst (v := 4) hx hb dX1_why_62 (by decide) ?_
          have h := Option.some.inj h
          subst h
          exact hret _ _ _ _ _ (g_iret hQ' hG ⟨_, rfl, rfl, (hgb _ gx_rfl)⟩ (Nat.le_of_ble_eq_true rfl) (Nat.le_of_ble_eq_true rfl) dX1_why_63)
      · refine lv_iconst (v := 3) hx hb dX1_why_47 (by decide) ?_
        have h := Option.some.inj h
        subst h
        exact hret _ _ _ _ _ (g_iret hQ' hG ⟨_, rfl, rfl, (hgb _ gx_rfl)⟩ (Nat.le_of_ble_eq_true rfl) (Nat.le_of_ble_eq_true rfl) dX1_why_48)
    · refine lv_iconst (v := 2) hx hb dX1_why_35 (by decide) ?_
      have h := Option.some.inj h
      subst h
      exact hret _ _ _ _ _ (g_iret hQ' hG ⟨_, rfl, rfl, (hgb _ gx_rfl)⟩ (Nat.le_of_ble_eq_true rfl) (Nat.le_of_ble_eq_true rfl) dX1_why_36)
  · refine lv_iconst (v := 1) hx hb dX1_why_20 (by decide) ?_
    have h := Option.some.inj h
    subst h
    exact hret _ _ _ _ _ (g_iret hQ' hG ⟨_, rfl, rfl, (hgb _ gx_rfl)⟩ (Nat.le_of_ble_eq_true rfl) (Nat.le_of_ble_eq_true rfl) dX1_why_21)
end X1L
