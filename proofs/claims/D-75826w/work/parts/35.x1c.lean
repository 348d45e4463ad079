/-! BlackoutStart: the methods that change it -/
section X1L
variable {p : Program} {l : Launch} {e : Env} {R : Room} {s : State} {m : MethodId} {args : Array Value} {below : List Frame} {meth : Method} {c : Code} {H : Heap} {locs : List Loc} {cells slots : Nat} {Q : State → Prop}
variable {cc : ByteArray} {pc : Nat} {ls : Array Slot} {rest : List Value} {A : Nat → Prop} {L0 n nL : Nat} {g : gNum} {own : String} {rm : Room} {γ : Type} {o : γ} {lv : List (Nat × Value)} {RR : Option Value → GH → Nat → Prop} {RT : String → Addr → GH → Prop} {mc ms : Nat} {ret : Option FieldType}
variable {b d x : Nat} {sc : SC} {su : SU} {σ : SS} {G0 G : GH} {i : Int32} {index : Nat}
/-! X1_setFuse -/
def c_X1_setFuse (σ : SS) (p0 : Int32) : Option (Nat ⊕ (Int32 × SS)) :=
ob1 (j_X1_in (p0.toInt64) 1 9999) fun (v1 : Int32) =>
if v1 = 0 then (
some (Sum.inl 1))
else (
nm (σ.1 17) fun (x2 : Int32) =>
gd (σ.1 25 = 0 ∨ σ.1 25 = 1) <| nm (cpS σ) fun (σ3 : SS) =>
nm (S_sf σ3 17 p0) fun (σ5 : SS) =>
some (Sum.inr (x2, σ5)))
set_option maxRecDepth 100000 in
theorem w_X1_setFuse {l : Launch} (hst : l.stackTraces = false) {g : gNum} {L0 x b d sz hn : Nat} {su : SU} {sc : SC} {σ : SS} {iv by_ : Nat → Int32} {hi : List SS} {so : Nat → Option SS} {G : GH} (hX : XW g.2.1 L0 x (su, sc, σ, iv, by_, hi, so) b d G) (hhn : hi.length = hn) {p0 : Int32} {out : Nat ⊕ (Int32 × SS)} (h : c_X1_setFuse σ p0 = some out) : gMetX l yX1_setFuse (ws_ yX1_setFuse cX1_setFuse 3 (some .int)) g.1 clX L0 (gK g) [.ref x, .int p0] G sz 9 201 19 317 (fun v G' n => ∃ r σ' b' d', out = .inr (r, σ') ∧ v = some (.int r) ∧ XW g.2.1 L0 x (su, sc, σ', iv, by_, xh hi σ, so) b' d' G') (fun E _ G' => ∃ k, out = .inl k ∧ E = exN k ∧ gx G G') := by
  refine gMetX.of (own := RX1) (gK_ok g) (by decide +kernel) (Nat.le_of_ble_eq_true rfl) rfl ?_
  intro p e R s m args below meth c A Q ls H hF hQ hnt hG hl
  obtain ⟨Q', hQ', hret⟩ := gx_ret hQ
  have hx := hF.1.1
  have hb := hF.1.2.1
  have hts := hF.1.2.2.2.2
  have hl : lv_has ls 3 [(0, .ref x), (1, .int p0)] := hl
  obtain ⟨bb, hd, he, sl, f, h9, t9, Bs, S, o⟩ := hX
  obtain ⟨hid, hL0, hsu, hsc, hfx, hfb, hfh, hfe, hfs⟩ := o.use
  have hdq := o.2.2.1
  have hlen : (Bs.map (·.1.1)).length = hn := by rw [List.length_map, ← hhn, show hi = Bs.map (·.2) from o.2.2.2.1, List.length_map]
  have hgb : ∀ g0, gx G g0 → gx G (sG g.2.1 b d (su.1 0) sc σ g0) := fun g0 h => gx_blk o.2.2.2.2.2.1.2.1 h
  have hG : gJK g L0 A s.heap (sG g.2.1 b d (su.1 0) sc σ G) sz H [] := by
    rw [hid]
    exact hG
  unfold c_X1_setFuse at h
  refine lv_iload_n hx hb dX1_setFuse_0 rfl (lv_at hl 1 rfl) ?_
  refine lv_i2l hx hb dX1_setFuse_1 rfl ?_
  refine lv_lconst (v := 1) hx hb dX1_setFuse_2 (by decide) ?_
  refine lv_ldc2 (v := 9999) hx hb hF.1.2.2.2.1 (hts _ q1723) dX1_setFuse_3 ?_
  refine kx_in q1029 hF hG hl (Nat.le_of_ble_eq_true rfl) (Nat.le_of_ble_eq_true rfl) h ⟨Nat.le_of_ble_eq_true rfl, Nat.le_of_ble_eq_true rfl⟩ (Nat.le_of_ble_eq_true rfl) dX1_setFuse_6 (fun v1 H locs h hG => ?_)
  refine kx_chk1 q1452 hst hF hQ hnt hG hl (Nat.le_of_ble_eq_true rfl) (Nat.le_of_ble_eq_true rfl) h ⟨Nat.le_of_ble_eq_true rfl, Nat.le_of_ble_eq_true rfl⟩ ⟨Nat.le_of_ble_eq_true rfl, Nat.le_of_ble_eq_true rfl⟩ (Nat.le_of_ble_eq_true rfl) dX1_setFuse_9 (fun h => ?_) (fun h H locs hG => ?_)
  · have h := Option.some.inj h
    subst h
    exact fun _ => ⟨1, rfl, rfl, (hgb _ gx_rfl)⟩
  · refine lv_aload_n hx hb dX1_setFuse_12 rfl (lv_at hl 0 rfl) ?_
    refine g_get hF hG hfx.rd (C := RX1) (T := TX1) (N := 7) rfl in_X1 4 (by decide) q754 (fun _ h => h) (v := .ref b) rfl dX1_setFuse_13 ?_
    refine g_getN hF hG sG_0 (C := RX2) (T := TX2) (N := 26) rfl in_X2 17 (by decide) q619 (fun _ h => h) (v := .int (σ.1 17)) rfl dX1_setFuse_16 ?_
    refine gb_nm h (fun x2 h => ?_)
    refine lv_istore_n hx hb dX1_setFuse_19 rfl hl (Nat.le_of_ble_eq_true rfl) (lv' := [(2, .int x2), (0, .ref x), (1, .int p0)]) rfl (fun ls hl => ?_)
    refine lv_aload_n hx hb dX1_setFuse_20 rfl (lv_at hl 1 rfl) ?_
    refine kx_change q841 hF o hid hfx hG hl (Nat.le_of_ble_eq_true rfl) (Nat.le_of_ble_eq_true rfl) h ⟨Nat.le_of_ble_eq_true rfl, Nat.le_of_ble_eq_true rfl⟩ (Nat.le_of_ble_eq_true rfl) dX1_setFuse_21 (fun σ3 b d G n4 H locs h hX hG => ?_)
    obtain ⟨bb, hd, he, sl, f, h9, t9, Bs, S, o⟩ := hX
    obtain ⟨hid, hL0, hsu, hsc, hfx, hfb, hfh, hfe, hfs⟩ := o.use
    have hG : gJK g L0 A s.heap (sG g.2.1 b d (su.1 0) sc σ3 G) n4 H locs := by
      rw [hid]
      exact hG
    refine lv_iload_n hx hb dX1_setFuse_24 rfl (lv_at hl 2 rfl) ?_
    refine s_putIN hF hL0 hG 17 (by decide) ⟨rfl, rfl, rfl⟩ q619 h dX1_setFuse_25 (fun σ5 H locs h hG => ?_)
    refine lv_iload_n hx hb dX1_setFuse_28 rfl (lv_at hl 0 rfl) ?_
    have h := Option.some.inj h
    subst h
    exact hret _ _ _ _ _ (g_iret hQ' hG ⟨_, _, b, d, rfl, rfl, XW.upd ⟨bb, hd, he, sl, f, h9, t9, Bs, S, o⟩ gx_rfl⟩ (Nat.le_of_ble_eq_true rfl) (Nat.le_of_ble_eq_true rfl) dX1_setFuse_29)
/-! X1_setPriority -/
def c_X1_setPriority (su : SU) (σ : SS) (p0 : Int32) (p1 : Int32) : Option (Nat ⊕ (Int32 × SS)) :=
oe1 (ρ := Nat) (c_X1_outletAt su p0) (fun k => some (Sum.inl k)) fun (i1 : Nat) =>
ob1 (j_X1_in (p1.toInt64) 0 9) fun (v3 : Int32) =>
if v3 = 0 then (
some (Sum.inl 1))
else (
ob1 (S_rd σ 8 p0) fun (v4 : Int32) =>
gd (σ.1 25 = 0 ∨ σ.1 25 = 1) <| nm (cpS σ) fun (σ5 : SS) =>
ob1 (S_wr σ5 8 p0 p1) fun (σ7 : SS) =>
some (Sum.inr (v4, σ7)))
set_option maxRecDepth 100000 in
theorem w_X1_setPriority {l : Launch} (hst : l.stackTraces = false) {g : gNum} {L0 x b d sz hn : Nat} {su : SU} {sc : SC} {σ : SS} {iv by_ : Nat → Int32} {hi : List SS} {so : Nat → Option SS} {G : GH} (hX : XW g.2.1 L0 x (su, sc, σ, iv, by_, hi, so) b d G) (hhn : hi.length = hn) {p0 : Int32} {p1 : Int32} {out : Nat ⊕ (Int32 × SS)} (h : c_X1_setPriority su σ p0 p1 = some out) : gMetX l yX1_setPriority (ws_ yX1_setPriority cX1_setPriority 5 (some .int)) g.1 clX L0 (gK g) [.ref x, .int p0, .int p1] G sz 10 201 20 323 (fun v G' n => ∃ r σ' b' d', out = .inr (r, σ') ∧ v = some (.int r) ∧ XW g.2.1 L0 x (su, sc, σ', iv, by_, xh hi σ, so) b' d' G') (fun E _ G' => ∃ k, out = .inl k ∧ E = exN k ∧ gx G G') := by
  refine gMetX.of (own := RX1) (gK_ok g) (by decide +kernel) (Nat.le_of_ble_eq_true rfl) rfl ?_
  intro p e R s m args below meth c A Q ls H hF hQ hnt hG hl
  obtain ⟨Q', hQ', hret⟩ := gx_ret hQ
  have hx := hF.1.1
  have hb := hF.1.2.1
  have hts := hF.1.2.2.2.2
  have hl : lv_has ls 5 [(0, .ref x), (1, .int p0), (2, .int p1)] := hl
  obtain ⟨bb, hd, he, sl, f, h9, t9, Bs, S, o⟩ := hX
  obtain ⟨hid, hL0, hsu, hsc, hfx, hfb, hfh, hfe, hfs⟩ := o.use
  have hdq := o.2.2.1
  have hlen : (Bs.map (·.1.1)).length = hn := by rw [List.length_map, ← hhn, show hi = Bs.map (·.2) from o.2.2.2.1, List.length_map]
  have hgb : ∀ g0, gx G g0 → gx G (sG g.2.1 b d (su.1 0) sc σ g0) := fun g0 h => gx_blk o.2.2.2.2.2.1.2.1 h
  have hG : gJK g L0 A s.heap (sG g.2.1 b d (su.1 0) sc σ G) sz H [] := by
    rw [hid]
    exact hG
  unfold c_X1_setPriority at h
  refine lv_aload_n hx hb dX1_setPriority_0 rfl (lv_at hl 0 rfl) ?_
  refine lv_iload_n hx hb dX1_setPriority_1 rfl (lv_at hl 1 rfl) ?_
  refine kx_outletAt q1500 hst hF hQ hnt o hid hsu hfx hG hl (Nat.le_of_ble_eq_true rfl) (Nat.le_of_ble_eq_true rfl) h ⟨Nat.le_of_ble_eq_true rfl, Nat.le_of_ble_eq_true rfl⟩ ⟨Nat.le_of_ble_eq_true rfl, Nat.le_of_ble_eq_true rfl⟩ (Nat.le_of_ble_eq_true rfl) dX1_setPriority_2 (fun k h => by
      have h := Option.some.inj h
      subst h
      exact fun _ => ⟨k, rfl, rfl, (hgb _ gx_rfl)⟩) (fun i1 n2 H locs hi_i1 h hG => ?_)
  refine lv_astore_n hx hb dX1_setPriority_5 rfl hl (Nat.le_of_ble_eq_true rfl) (lv' := [(3, .ref (su.2.2.1 i1)), (0, .ref x), (1, .int p0), (2, .int p1)]) rfl (fun ls hl => ?_)
  refine lv_iload_n hx hb dX1_setPriority_6 rfl (lv_at hl 3 rfl) ?_
  refine lv_i2l hx hb dX1_setPriority_7 rfl ?_
  refine lv_lconst (v := 0) hx hb dX1_setPriority_8 (by decide) ?_
  refine lv_ldc2 (v := 9) hx hb hF.1.2.2.2.1 (hts _ q1776) dX1_setPriority_9 ?_
  refine kx_in q1029 hF hG hl (Nat.le_of_ble_eq_true rfl) (Nat.le_of_ble_eq_true rfl) h ⟨Nat.le_of_ble_eq_true rfl, Nat.le_of_ble_eq_true rfl⟩ (Nat.le_of_ble_eq_true rfl) dX1_setPriority_12 (fun v3 H locs h hG => ?_)
  refine kx_chk1 q1452 hst hF hQ hnt hG hl (Nat.le_of_ble_eq_true rfl) (Nat.le_of_ble_eq_true rfl) h ⟨Nat.le_of_ble_eq_true rfl, Nat.le_of_ble_eq_true rfl⟩ ⟨Nat.le_of_ble_eq_true rfl, Nat.le_of_ble_eq_true rfl⟩ (Nat.le_of_ble_eq_true rfl) dX1_setPriority_15 (fun h => ?_) (fun h H locs hG => ?_)
  · have h := Option.some.inj h
    subst h
    exact fun _ => ⟨1, rfl, rfl, (hgb _ gx_rfl)⟩
  · refine lv_aload_n hx hb dX1_setPriority_18 rfl (lv_at hl 1 rfl) ?_
    refine g_get hF hG hfx.rd (C := RX1) (T := TX1) (N := 7) rfl in_X1 4 (by decide) q754 (fun _ h => h) (v := .ref b) rfl dX1_setPriority_19 ?_
    refine g_getN hF hG sG_0 (C := RX2) (T := TX2) (N := 26) rfl in_X2 8 (by decide) q605 (fun _ h => h) (v := .ref (b + d + 8)) rfl dX1_setPriority_22 ?_
    refine lv_iload_n hx hb dX1_setPriority_25 rfl (lv_at hl 2 rfl) ?_
    refine s_rd hF hG (j := 8) (by decide) h dX1_setPriority_26 (fun v4 h => ?_)
    refine lv_istore hx hb dX1_setPriority_27 hl (Nat.le_of_ble_eq_true rfl) (lv' := [(4, .int v4), (3, .ref (su.2.2.1 i1)), (0, .ref x), (1, .int p0), (2, .int p1)]) rfl (fun ls hl => ?_)
    refine lv_aload_n hx hb dX1_setPriority_29 rfl (lv_at hl 2 rfl) ?_
    refine kx_change q841 hF o hid hfx hG hl (Nat.le_of_ble_eq_true rfl) (Nat.le_of_ble_eq_true rfl) h ⟨Nat.le_of_ble_eq_true rfl, Nat.le_of_ble_eq_true rfl⟩ (Nat.le_of_ble_eq_true rfl) dX1_setPriority_30 (fun σ5 b d G n6 H locs h hX hG => ?_)
    obtain ⟨bb, hd, he, sl, f, h9, t9, Bs, S, o⟩ := hX
    obtain ⟨hid, hL0, hsu, hsc, hfx, hfb, hfh, hfe, hfs⟩ := o.use
    have hG : gJK g L0 A s.heap (sG g.2.1 b d (su.1 0) sc σ5 G) n6 H locs := by
      rw [hid]
      exact hG
    refine g_getN hF hG sG_0 (C := RX2) (T := TX2) (N := 26) rfl in_X2 8 (by decide) q605 (fun _ h => h) (v := .ref (b + d + 8)) rfl dX1_setPriority_33 ?_
    refine lv_iload_n hx hb dX1_setPriority_36 rfl (lv_at hl 3 rfl) ?_
    refine lv_iload_n hx hb dX1_setPriority_37 rfl (lv_at hl 4 rfl) ?_
    refine s_wr hF hL0 hG (j := 8) (by decide) h dX1_setPriority_38 (fun σ7 H locs h hG => ?_)
    refine lv_iload hx hb dX1_setPriority_39 (lv_at hl 0 rfl) ?_
    have h := Option.some.inj h
    subst h
    exact hret _ _ _ _ _ (g_iret hQ' hG ⟨_, _, b, d, rfl, rfl, XW.upd ⟨bb, hd, he, sl, f, h9, t9, Bs, S, o⟩ gx_rfl⟩ (Nat.le_of_ble_eq_true rfl) (Nat.le_of_ble_eq_true rfl) dX1_setPriority_41)
/-! X1_forget -/
def c_X1_forget (σ : SS) : Option ((Int32 × SS)) :=
gd (σ.1 25 = 0 ∨ σ.1 25 = 1) <| nm (cpS σ) fun (σ1 : SS) =>
ob2 (c_X2_forget σ1) fun (v3 : Int32) (σ4 : SS) =>
some (v3, σ4)
set_option maxRecDepth 100000 in
theorem w_X1_forget {l : Launch} {g : gNum} {L0 x b d sz hn : Nat} {su : SU} {sc : SC} {σ : SS} {iv by_ : Nat → Int32} {hi : List SS} {so : Nat → Option SS} {G : GH} (hX : XW g.2.1 L0 x (su, sc, σ, iv, by_, hi, so) b d G) (hhn : hi.length = hn) {out : (Int32 × SS)} (h : c_X1_forget σ = some out) : gMet l yX1_forget (ws_ yX1_forget cX1_forget 1 (some .int)) g.1 clX L0 (gK g) [.ref x] G sz 7 201 18 311 (fun v G' n => v = some (.int out.1) ∧ ∃ b' d', XW g.2.1 L0 x (su, sc, out.2, iv, by_, xh hi σ, so) b' d' G') := by
  refine gMet.of (own := RX1) (gK_ok g) (by decide +kernel) (Nat.le_of_ble_eq_true rfl) rfl ?_
  intro p e R s m args below meth c A Q ls H hF hQ hin hG hl
  have hx := hF.1.1
  have hb := hF.1.2.1
  have hts := hF.1.2.2.2.2
  have hl : lv_has ls 1 [(0, .ref x)] := hl
  obtain ⟨bb, hd, he, sl, f, h9, t9, Bs, S, o⟩ := hX
  obtain ⟨hid, hL0, hsu, hsc, hfx, hfb, hfh, hfe, hfs⟩ := o.use
  have hdq := o.2.2.1
  have hlen : (Bs.map (·.1.1)).length = hn := by rw [List.length_map, ← hhn, show hi = Bs.map (·.2) from o.2.2.2.1, List.length_map]
  have hgb : ∀ g0, gx G g0 → gx G (sG g.2.1 b d (su.1 0) sc σ g0) := fun g0 h => gx_blk o.2.2.2.2.2.1.2.1 h
  have hG : gJK g L0 A s.heap (sG g.2.1 b d (su.1 0) sc σ G) sz H [] := by
    rw [hid]
    exact hG
  unfold c_X1_forget at h
  refine lv_aload_n hx hb dX1_forget_0 rfl (lv_at hl 0 rfl) ?_
  refine kx_change q841 hF o hid hfx hG hl (Nat.le_of_ble_eq_true rfl) (Nat.le_of_ble_eq_true rfl) h ⟨Nat.le_of_ble_eq_true rfl, Nat.le_of_ble_eq_true rfl⟩ (Nat.le_of_ble_eq_true rfl) dX1_forget_1 (fun σ1 b d G n2 H locs h hX hG => ?_)
  obtain ⟨bb, hd, he, sl, f, h9, t9, Bs, S, o⟩ := hX
  obtain ⟨hid, hL0, hsu, hsc, hfx, hfb, hfh, hfe, hfs⟩ := o.use
  have hG : gJK g L0 A s.heap (sG g.2.1 b d (su.1 0) sc σ1 G) n2 H locs := by
    rw [hid]
    exact hG
  refine k_X2_forget q973 hF hL0 hsu hsc hG hl (Nat.le_of_ble_eq_true rfl) (Nat.le_of_ble_eq_true rfl) h ⟨Nat.le_of_ble_eq_true rfl, Nat.le_of_ble_eq_true rfl⟩ (Nat.le_of_ble_eq_true rfl) dX1_forget_4 (fun v3 σ4 H locs h hG => ?_)
  have h := Option.some.inj h
  subst h
  exact g_iret hQ hG ⟨rfl, b, d, XW.upd ⟨bb, hd, he, sl, f, h9, t9, Bs, S, o⟩ gx_rfl⟩ (Nat.le_of_ble_eq_true rfl) (Nat.le_of_ble_eq_true rfl) dX1_forget_7
/-! X1_blackout -/
def c_X1_blackout (su : SU) (σ : SS) (p0 : Int32) : Option (Nat ⊕ (Int32 × SS)) :=
ob1 (j_X1_in (p0.toInt64) 1 50) fun (v1 : Int32) =>
if v1 = 0 then (
some (Sum.inl 1))
else (
gd (σ.1 25 = 0 ∨ σ.1 25 = 1) <| nm (cpS σ) fun (σ2 : SS) =>
ob1 (c_X2_blackout su σ2 p0) fun (σ4 : SS) =>
some (Sum.inr ((σ4.1 20), σ4)))
set_option maxRecDepth 100000 in
theorem w_X1_blackout {l : Launch} (hst : l.stackTraces = false) {g : gNum} {L0 x b d sz hn : Nat} {su : SU} {sc : SC} {σ : SS} {iv by_ : Nat → Int32} {hi : List SS} {so : Nat → Option SS} {G : GH} (hX : XW g.2.1 L0 x (su, sc, σ, iv, by_, hi, so) b d G) (hhn : hi.length = hn) {p0 : Int32} {out : Nat ⊕ (Int32 × SS)} (h : c_X1_blackout su σ p0 = some out) : gMetX l yX1_blackout (ws_ yX1_blackout cX1_blackout 2 (some .int)) g.1 clX L0 (gK g) [.ref x, .int p0] G sz 9 201 19 317 (fun v G' n => ∃ r σ' b' d', out = .inr (r, σ') ∧ v = some (.int r) ∧ XW g.2.1 L0 x (su, sc, σ', iv, by_, xh hi σ, so) b' d' G') (fun E _ G' => ∃ k, out = .inl k ∧ E = exN k ∧ gx G G') := by
  refine gMetX.of (own := RX1) (gK_ok g) (by decide +kernel) (Nat.le_of_ble_eq_true rfl) rfl ?_
  intro p e R s m args below meth c A Q ls H hF hQ hnt hG hl
  obtain ⟨Q', hQ', hret⟩ := gx_ret hQ
  have hx := hF.1.1
  have hb := hF.1.2.1
  have hts := hF.1.2.2.2.2
  have hl : lv_has ls 2 [(0, .ref x), (1, .int p0)] := hl
  obtain ⟨bb, hd, he, sl, f, h9, t9, Bs, S, o⟩ := hX
  obtain ⟨hid, hL0, hsu, hsc, hfx, hfb, hfh, hfe, hfs⟩ := o.use
  have hdq := o.2.2.1
  have hlen : (Bs.map (·.1.1)).length = hn := by rw [List.length_map, ← hhn, show hi = Bs.map (·.2) from o.2.2.2.1, List.length_map]
  have hgb : ∀ g0, gx G g0 → gx G (sG g.2.1 b d (su.1 0) sc σ g0) := fun g0 h => gx_blk o.2.2.2.2.2.1.2.1 h
  have hG : gJK g L0 A s.heap (sG g.2.1 b d (su.1 0) sc σ G) sz H [] := by
    rw [hid]
    exact hG
  unfold c_X1_blackout at h
  refine lv_iload_n hx hb dX1_blackout_0 rfl (lv_at hl 1 rfl) ?_
  refine lv_i2l hx hb dX1_blackout_1 rfl ?_
  refine lv_lconst (v := 1) hx hb dX1_blackout_2 (by decide) ?_
  refine lv_ldc2 (v := 50) hx hb hF.1.2.2.2.1 (hts _ q1749) dX1_blackout_3 ?_
  refine kx_in q1029 hF hG hl (Nat.le_of_ble_eq_true rfl) (Nat.le_of_ble_eq_true rfl) h ⟨Nat.le_of_ble_eq_true rfl, Nat.le_of_ble_eq_true rfl⟩ (Nat.le_of_ble_eq_true rfl) dX1_blackout_6 (fun v1 H locs h hG => ?_)
  refine kx_chk1 q1452 hst hF hQ hnt hG hl (Nat.le_of_ble_eq_true rfl) (Nat.le_of_ble_eq_true rfl) h ⟨Nat.le_of_ble_eq_true rfl, Nat.le_of_ble_eq_true rfl⟩ ⟨Nat.le_of_ble_eq_true rfl, Nat.le_of_ble_eq_true rfl⟩ (Nat.le_of_ble_eq_true rfl) dX1_blackout_9 (fun h => ?_) (fun h H locs hG => ?_)
  · have h := Option.some.inj h
    subst h
    exact fun _ => ⟨1, rfl, rfl, (hgb _ gx_rfl)⟩
  · refine lv_aload_n hx hb dX1_blackout_12 rfl (lv_at hl 0 rfl) ?_
    refine kx_change q841 hF o hid hfx hG hl (Nat.le_of_ble_eq_true rfl) (Nat.le_of_ble_eq_true rfl) h ⟨Nat.le_of_ble_eq_true rfl, Nat.le_of_ble_eq_true rfl⟩ (Nat.le_of_ble_eq_true rfl) dX1_blackout_13 (fun σ2 b d G n3 H locs h hX hG => ?_)
    obtain ⟨bb, hd, he, sl, f, h9, t9, Bs, S, o⟩ := hX
    obtain ⟨hid, hL0, hsu, hsc, hfx, hfb, hfh, hfe, hfs⟩ := o.use
    have hG : gJK g L0 A s.heap (sG g.2.1 b d (su.1 0) sc σ2 G) n3 H locs := by
      rw [hid]
      exact hG
    refine lv_iload_n hx hb dX1_blackout_16 rfl (lv_at hl 1 rfl) ?_
    refine k_X2_blackout q1750 hF hL0 hsu hsc hG hl (Nat.le_of_ble_eq_true rfl) (Nat.le_of_ble_eq_true rfl) h ⟨Nat.le_of_ble_eq_true rfl, Nat.le_of_ble_eq_true rfl⟩ (Nat.le_of_ble_eq_true rfl) dX1_blackout_17 (fun σ4 H locs h hG => ?_)
    refine lv_aload_n hx hb dX1_blackout_20 rfl (lv_at hl 0 rfl) ?_
    refine g_get hF hG hfx.rd (C := RX1) (T := TX1) (N := 7) rfl in_X1 4 (by decide) q754 (fun _ h => h) (v := .ref b) rfl dX1_blackout_21 ?_
    refine g_getN hF hG sG_0 (C := RX2) (T := TX2) (N := 26) rfl in_X2 20 (by decide) q625 (fun _ h => h) (v := .int (σ4.1 20)) rfl dX1_blackout_24 ?_
    have h := Option.some.inj h
    subst h
    exact hret _ _ _ _ _ (g_iret hQ' hG ⟨_, _, b, d, rfl, rfl, XW.upd ⟨bb, hd, he, sl, f, h9, t9, Bs, S, o⟩ gx_rfl⟩ (Nat.le_of_ble_eq_true rfl) (Nat.le_of_ble_eq_true rfl) dX1_blackout_27)
/-! X1_want -/
def c_X1_want (su : SU) (σ : SS) (p0 : Int32) (p1 : Int32) : Option (Nat ⊕ (Int32 × SS)) :=
oe1 (ρ := Nat) (c_X1_outletAt su p0) (fun k => some (Sum.inl k)) fun (i1 : Nat) =>
ob1 (j_X1_has (σ.1 13) p0) fun (v3 : Int32) =>
gd (σ.1 25 = 0 ∨ σ.1 25 = 1) <| nm (cpS σ) fun (σ4 : SS) =>
ob1 (c_X2_want σ4 p0 p1) fun (σ6 : SS) =>
ob1 (retZ v3) fun (r7 : Int32) =>
some (Sum.inr (r7, σ6))
set_option maxRecDepth 100000 in
theorem w_X1_want {l : Launch} (hst : l.stackTraces = false) {g : gNum} {L0 x b d sz hn : Nat} {su : SU} {sc : SC} {σ : SS} {iv by_ : Nat → Int32} {hi : List SS} {so : Nat → Option SS} {G : GH} (hX : XW g.2.1 L0 x (su, sc, σ, iv, by_, hi, so) b d G) (hhn : hi.length = hn) {p0 : Int32} {p1 : Int32} {out : Nat ⊕ (Int32 × SS)} (h : c_X1_want su σ p0 p1 = some out) : gMetX l yX1_want (ws_ yX1_want cX1_want 5 (some .boolean)) g.1 clX L0 (gK g) [.ref x, .int p0, .int p1] G sz 10 201 19 317 (fun v G' n => ∃ r σ' b' d', out = .inr (r, σ') ∧ v = some (.int r) ∧ XW g.2.1 L0 x (su, sc, σ', iv, by_, xh hi σ, so) b' d' G') (fun E _ G' => ∃ k, out = .inl k ∧ E = exN k ∧ gx G G') := by
  refine gMetX.of (own := RX1) (gK_ok g) (by decide +kernel) (Nat.le_of_ble_eq_true rfl) rfl ?_
  intro p e R s m args below meth c A Q ls H hF hQ hnt hG hl
  obtain ⟨Q', hQ', hret⟩ := gx_ret hQ
  have hx := hF.1.1
  have hb := hF.1.2.1
  have hts := hF.1.2.2.2.2
  have hl : lv_has ls 5 [(0, .ref x), (1, .int p0), (2, .int p1)] := hl
  obtain ⟨bb, hd, he, sl, f, h9, t9, Bs, S, o⟩ := hX
  obtain ⟨hid, hL0, hsu, hsc, hfx, hfb, hfh, hfe, hfs⟩ := o.use
  have hdq := o.2.2.1
  have hlen : (Bs.map (·.1.1)).length = hn := by rw [List.length_map, ← hhn, show hi = Bs.map (·.2) from o.2.2.2.1, List.length_map]
  have hgb : ∀ g0, gx G g0 → gx G (sG g.2.1 b d (su.1 0) sc σ g0) := fun g0 h => gx_blk o.2.2.2.2.2.1.2.1 h
  have hG : gJK g L0 A s.heap (sG g.2.1 b d (su.1 0) sc σ G) sz H [] := by
    rw [hid]
    exact hG
  unfold c_X1_want at h
  refine lv_aload_n hx hb dX1_want_0 rfl (lv_at hl 0 rfl) ?_
  refine lv_iload_n hx hb dX1_want_1 rfl (lv_at hl 1 rfl) ?_
  refine kx_outletAt q1500 hst hF hQ hnt o hid hsu hfx hG hl (Nat.le_of_ble_eq_true rfl) (Nat.le_of_ble_eq_true rfl) h ⟨Nat.le_of_ble_eq_true rfl, Nat.le_of_ble_eq_true rfl⟩ ⟨Nat.le_of_ble_eq_true rfl, Nat.le_of_ble_eq_true rfl⟩ (Nat.le_of_ble_eq_true rfl) dX1_want_2 (fun k h => by
      have h := Option.some.inj h
      subst h
      exact fun _ => ⟨k, rfl, rfl, (hgb _ gx_rfl)⟩) (fun i1 n2 H locs hi_i1 h hG => ?_)
  refine lv_astore_n hx hb dX1_want_5 rfl hl (Nat.le_of_ble_eq_true rfl) (lv' := [(3, .ref (su.2.2.1 i1)), (0, .ref x), (1, .int p0), (2, .int p1)]) rfl (fun ls hl => ?_)
  refine lv_aload_n hx hb dX1_want_6 rfl (lv_at hl 1 rfl) ?_
  refine g_get hF hG hfx.rd (C := RX1) (T := TX1) (N := 7) rfl in_X1 4 (by decide) q754 (fun _ h => h) (v := .ref b) rfl dX1_want_7 ?_
  refine g_getN hF hG sG_0 (C := RX2) (T := TX2) (N := 26) rfl in_X2 13 (by decide) q613 (fun _ h => h) (v := .int (σ.1 13)) rfl dX1_want_10 ?_
  refine lv_iload_n hx hb dX1_want_13 rfl (lv_at hl 2 rfl) ?_
  refine kx_has q1505 hF hG hl (Nat.le_of_ble_eq_true rfl) (Nat.le_of_ble_eq_true rfl) h ⟨Nat.le_of_ble_eq_true rfl, Nat.le_of_ble_eq_true rfl⟩ (Nat.le_of_ble_eq_true rfl) dX1_want_14 (fun v3 H locs h hG => ?_)
  refine lv_istore hx hb dX1_want_17 hl (Nat.le_of_ble_eq_true rfl) (lv' := [(4, .int v3), (3, .ref (su.2.2.1 i1)), (0, .ref x), (1, .int p0), (2, .int p1)]) rfl (fun ls hl => ?_)
  refine lv_aload_n hx hb dX1_want_19 rfl (lv_at hl 2 rfl) ?_
  refine kx_change q841 hF o hid hfx hG hl (Nat.le_of_ble_eq_true rfl) (Nat.le_of_ble_eq_true rfl) h ⟨Nat.le_of_ble_eq_true rfl, Nat.le_of_ble_eq_true rfl⟩ (Nat.le_of_ble_eq_true rfl) dX1_want_20 (fun σ4 b d G n5 H locs h hX hG => ?_)
  obtain ⟨bb, hd, he, sl, f, h9, t9, Bs, S, o⟩ := hX
  obtain ⟨hid, hL0, hsu, hsc, hfx, hfb, hfh, hfe, hfs⟩ := o.use
  have hG : gJK g L0 A s.heap (sG g.2.1 b d (su.1 0) sc σ4 G) n5 H locs := by
    rw [hid]
    exact hG
  refine lv_iload_n hx hb dX1_want_23 rfl (lv_at hl 3 rfl) ?_
  refine lv_iload_n hx hb dX1_want_24 rfl (lv_at hl 4 rfl) ?_
  refine k_X2_want q1758 hF hL0 hsu hsc hG hl (Nat.le_of_ble_eq_true rfl) (Nat.le_of_ble_eq_true rfl) h ⟨Nat.le_of_ble_eq_true rfl, Nat.le_of_ble_eq_true rfl⟩ (Nat.le_of_ble_eq_true rfl) dX1_want_25 (fun σ6 H locs h hG => ?_)
  refine lv_iload hx hb dX1_want_28 (lv_at hl 0 rfl) ?_
  obtain ⟨r7, hz, h⟩ := ob1_e h
  obtain ⟨ez, hz⟩ := retZ_e hz
  have h := Option.some.inj h
  subst h
  rw [← ez] at hQ'
  exact hret _ _ _ _ _ (g_zret hQ' hG hz ⟨_, _, b, d, rfl, rfl, XW.upd ⟨bb, hd, he, sl, f, h9, t9, Bs, S, o⟩ gx_rfl⟩ (Nat.le_of_ble_eq_true rfl) (Nat.le_of_ble_eq_true rfl) dX1_want_30)
end X1L
