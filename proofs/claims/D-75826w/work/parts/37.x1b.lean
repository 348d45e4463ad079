/-! BlackoutStart: the methods that change it -/
section X1L
variable {p : Program} {l : Launch} {e : Env} {R : Room} {s : State} {m : MethodId} {args : Array Value} {below : List Frame} {meth : Method} {c : Code} {H : Heap} {locs : List Loc} {cells slots : Nat} {Q : State → Prop}
variable {cc : ByteArray} {pc : Nat} {ls : Array Slot} {rest : List Value} {A : Nat → Prop} {L0 n nL : Nat} {g : gNum} {own : String} {rm : Room} {γ : Type} {o : γ} {lv : List (Nat × Value)} {RR : Option Value → GH → Nat → Prop} {RT : String → Addr → GH → Prop} {mc ms : Nat} {ret : Option FieldType}
variable {b d x : Nat} {sc : SC} {su : SU} {σ : SS} {G0 G : GH} {i : Int32} {index : Nat}
/-! X1_truncate -/
def c_X1_truncate (iv : Nat → Int32) (by_ : Nat → Int32) (p0 : Int32) : Option (Nat ⊕ (Int32 × (Nat → Int32) × (Nat → Int32))) :=
ob1 (j_X1_in (p0.toInt64) 0 ((iv 1).toInt64)) fun (v1 : Int32) =>
if v1 = 0 then (
some (Sum.inl 3))
else (
nm (upd iv 1 p0) fun (iv2 : Nat → Int32) =>
some (Sum.inr (p0, iv2, by_)))
set_option maxRecDepth 100000 in
theorem w_X1_truncate {l : Launch} (hst : l.stackTraces = false) {g : gNum} {L0 x b d sz hn : Nat} {su : SU} {sc : SC} {σ : SS} {iv by_ : Nat → Int32} {hi : List SS} {so : Nat → Option SS} {G : GH} (hX : XW g.2.1 L0 x (su, sc, σ, iv, by_, hi, so) b d G) (hhn : hi.length = hn) {p0 : Int32} {out : Nat ⊕ (Int32 × (Nat → Int32) × (Nat → Int32))} (h : c_X1_truncate iv by_ p0 = some out) : gMetX l yX1_truncate (ws_ yX1_truncate cX1_truncate 2 (some .int)) g.1 clX L0 (gK g) [.ref x, .int p0] G sz 9 110 1 6 (fun v G' n => ∃ r iv' by', out = .inr (r, iv', by') ∧ v = some (.int r) ∧ XW g.2.1 L0 x (su, sc, σ, iv', by', hi, so) b d G') (fun E _ G' => ∃ k, out = .inl k ∧ E = exN k ∧ gx G G') := by
  refine gMetX.of (own := RX1) (gK_ok g) (by decide +kernel) (Nat.le_of_ble_eq_true rfl) rfl ?_
  intro p e R s m args below meth c A Q ls H hF hQ hnt hG hl
  obtain ⟨Q', hQ', hret⟩ := gx_ret hQ
  have hx := hF.1.1
  have hb := hF.1.2.1
  have hts := hF.1.2.2.2.2
  have hl : lv_has ls 2 [(0, .ref x), (1, .int p0)] := hl
  obtain ⟨bb, hd, he, sl, f, h9, t9, Bs, S, o⟩ := hX
  obtain ⟨hid, hL0, hsu, hsc, hfx, hfb, hfh, hfe, hfs⟩ := o.use
  have hdq := o.2.2.1
  have hlen : (Bs.map (·.1.1)).length = hn := by rw [List.length_map, ← hhn, show hi = Bs.map (·.2) from o.2.2.2.1, List.length_map]
  have hgb : ∀ g0, gx G g0 → gx G (sG g.2.1 b d (su.1 0) sc σ g0) := fun g0 h => gx_blk o.2.2.2.2.2.1.2.1 h
  have hG : gJK g L0 A s.heap (sG g.2.1 b d (su.1 0) sc σ G) sz H [] := by
    rw [hid]
    exact hG
  unfold c_X1_truncate at h
  refine lv_iload_n hx hb dX1_truncate_0 rfl (lv_at hl 1 rfl) ?_
  refine lv_i2l hx hb dX1_truncate_1 rfl ?_
  refine lv_lconst (v := 0) hx hb dX1_truncate_2 (by decide) ?_
  refine lv_aload_n hx hb dX1_truncate_3 rfl (lv_at hl 0 rfl) ?_
  refine g_get hF hG hfx.rd (C := RX1) (T := TX1) (N := 7) rfl in_X1 1 (by decide) q751 (fun _ h => h) (v := .int (iv 1)) rfl dX1_truncate_4 ?_
  refine lv_i2l hx hb dX1_truncate_7 rfl ?_
  refine kx_in q1029 hF hG hl (Nat.le_of_ble_eq_true rfl) (Nat.le_of_ble_eq_true rfl) h ⟨Nat.le_of_ble_eq_true rfl, Nat.le_of_ble_eq_true rfl⟩ (Nat.le_of_ble_eq_true rfl) dX1_truncate_8 (fun v1 H locs h hG => ?_)
  refine kx_chk3 q1032 hst hF hQ hnt hG hl (Nat.le_of_ble_eq_true rfl) (Nat.le_of_ble_eq_true rfl) h ⟨Nat.le_of_ble_eq_true rfl, Nat.le_of_ble_eq_true rfl⟩ ⟨Nat.le_of_ble_eq_true rfl, Nat.le_of_ble_eq_true rfl⟩ (Nat.le_of_ble_eq_true rfl) dX1_truncate_11 (fun h => ?_) (fun h H locs hG => ?_)
  · have h := Option.some.inj h
    subst h
    exact fun _ => ⟨3, rfl, rfl, (hgb _ gx_rfl)⟩
  · refine lv_aload_n hx hb dX1_truncate_14 rfl (lv_at hl 0 rfl) ?_
    refine lv_iload_n hx hb dX1_truncate_15 rfl (lv_at hl 1 rfl) ?_
    refine kx_putI hF o hG 1 (by decide) q751 h dX1_truncate_16 (fun iv2 G H locs h o hG => ?_)
    obtain ⟨hid, hL0, hsu, hsc, hfx, hfb, hfh, hfe, hfs⟩ := o.use
    refine lv_iload_n hx hb dX1_truncate_19 rfl (lv_at hl 1 rfl) ?_
    have h := Option.some.inj h
    subst h
    exact hret _ _ _ _ _ (g_iret hQ' hG ⟨_, _, _, rfl, rfl, XW.upd ⟨bb, hd, he, sl, f, h9, t9, Bs, S, o⟩ gx_rfl⟩ (Nat.le_of_ble_eq_true rfl) (Nat.le_of_ble_eq_true rfl) dX1_truncate_20)
/-! X1_append -/
def c_X1_append (iv : Nat → Int32) (by_ : Nat → Int32) (p0 : Int32) (p1 : Int32) (p2 : Int32) (p3 : Int32) (p4 : Int32) : Option (Nat ⊕ (Int32 × (Nat → Int32) × (Nat → Int32))) :=
ob1 (
if 900 < ((iv 1) + 20) then (
some (0 : Int32))
else (
some (1 : Int32))) fun (z1 : Int32) =>
if z1 = 0 then (
some (Sum.inl 2))
else (
ob2 (x_put iv by_ p0) fun (iv2 : Nat → Int32) (by3 : Nat → Int32) =>
ob2 (x_put iv2 by3 p1) fun (iv4 : Nat → Int32) (by5 : Nat → Int32) =>
ob2 (x_put iv4 by5 p2) fun (iv6 : Nat → Int32) (by7 : Nat → Int32) =>
ob2 (x_put iv6 by7 p3) fun (iv8 : Nat → Int32) (by9 : Nat → Int32) =>
ob2 (x_put iv8 by9 p4) fun (iv10 : Nat → Int32) (by11 : Nat → Int32) =>
some (Sum.inr ((iv10 1), iv10, by11)))
set_option maxRecDepth 100000 in
theorem w_X1_append {l : Launch} (hst : l.stackTraces = false) {g : gNum} {L0 x b d sz hn : Nat} {su : SU} {sc : SC} {σ : SS} {iv by_ : Nat → Int32} {hi : List SS} {so : Nat → Option SS} {G : GH} (hX : XW g.2.1 L0 x (su, sc, σ, iv, by_, hi, so) b d G) (hhn : hi.length = hn) {p0 : Int32} {p1 : Int32} {p2 : Int32} {p3 : Int32} {p4 : Int32} {out : Nat ⊕ (Int32 × (Nat → Int32) × (Nat → Int32))} (h : c_X1_append iv by_ p0 p1 p2 p3 p4 = some out) : gMetX l yX1_append (ws_ yX1_append cX1_append 6 (some .int)) g.1 clX L0 (gK g) [.ref x, .int p0, .int p1, .int p2, .int p3, .int p4] G sz 9 110 1 6 (fun v G' n => ∃ r iv' by', out = .inr (r, iv', by') ∧ v = some (.int r) ∧ XW g.2.1 L0 x (su, sc, σ, iv', by', hi, so) b d G') (fun E _ G' => ∃ k, out = .inl k ∧ E = exN k ∧ gx G G') := by
  refine gMetX.of (own := RX1) (gK_ok g) (by decide +kernel) (Nat.le_of_ble_eq_true rfl) rfl ?_
  intro p e R s m args below meth c A Q ls H hF hQ hnt hG hl
  obtain ⟨Q', hQ', hret⟩ := gx_ret hQ
  have hx := hF.1.1
  have hb := hF.1.2.1
  have hts := hF.1.2.2.2.2
  have hl : lv_has ls 6 [(0, .ref x), (1, .int p0), (2, .int p1), (3, .int p2), (4, .int p3), (5, .int p4)] := hl
  obtain ⟨bb, hd, he, sl, f, h9, t9, Bs, S, o⟩ := hX
  obtain ⟨hid, hL0, hsu, hsc, hfx, hfb, hfh, hfe, hfs⟩ := o.use
  have hdq := o.2.2.1
  have hlen : (Bs.map (·.1.1)).length = hn := by rw [List.length_map, ← hhn, show hi = Bs.map (·.2) from o.2.2.2.1, List.length_map]
  have hgb : ∀ g0, gx G g0 → gx G (sG g.2.1 b d (su.1 0) sc σ g0) := fun g0 h => gx_blk o.2.2.2.2.2.1.2.1 h
  have hG : gJK g L0 A s.heap (sG g.2.1 b d (su.1 0) sc σ G) sz H [] := by
    rw [hid]
    exact hG
  unfold c_X1_append at h
  refine lv_aload_n hx hb dX1_append_0 rfl (lv_at hl 0 rfl) ?_
  refine g_get hF hG hfx.rd (C := RX1) (T := TX1) (N := 7) rfl in_X1 1 (by decide) q751 (fun _ h => h) (v := .int (iv 1)) rfl dX1_append_1 ?_
  refine lv_bipush (v := 20) hx hb dX1_append_4 (by decide) ?_
  refine lv_iadd hx hb dX1_append_6 ?_
  refine lv_sipush (v := 900) hx hb dX1_append_7 (by decide) ?_
  obtain ⟨X1, h, hJ1⟩ := ob1_u h
  have J1 : ∀ (z1 : Int32), X1 = z1 → ∀ (H : Heap) (locs : List Loc) (ls : Array Slot), gJK g L0 A s.heap (sG g.2.1 b d (su.1 0) sc σ G) sz H locs → lv_has ls 6 [(0, .ref x), (1, .int p0), (2, .int p1), (3, .int p2), (4, .int p3), (5, .int p4)] → W p l e R s m args below meth c H locs 0 0 Q (F0 m 18 ls [.int z1]) := by
    intro z1 e0 H locs ls hG hl
    have h := hJ1 z1 e0
    refine kx_chk2 q991 hst hF hQ hnt hG hl (Nat.le_of_ble_eq_true rfl) (Nat.le_of_ble_eq_true rfl) h ⟨Nat.le_of_ble_eq_true rfl, Nat.le_of_ble_eq_true rfl⟩ ⟨Nat.le_of_ble_eq_true rfl, Nat.le_of_ble_eq_true rfl⟩ (Nat.le_of_ble_eq_true rfl) dX1_append_18 (fun h => ?_) (fun h H locs hG => ?_)
    · have h := Option.some.inj h
      subst h
      exact fun _ => ⟨2, rfl, rfl, (hgb _ gx_rfl)⟩
    · refine lv_aload_n hx hb dX1_append_21 rfl (lv_at hl 0 rfl) ?_
      refine lv_iload_n hx hb dX1_append_22 rfl (lv_at hl 1 rfl) ?_
      refine kx_put q999 hF o hG hl (Nat.le_of_ble_eq_true rfl) (Nat.le_of_ble_eq_true rfl) h ⟨Nat.le_of_ble_eq_true rfl, Nat.le_of_ble_eq_true rfl⟩ (Nat.le_of_ble_eq_true rfl) dX1_append_23 (fun iv2 by3 G H locs h o hG => ?_)
      obtain ⟨hid, hL0, hsu, hsc, hfx, hfb, hfh, hfe, hfs⟩ := o.use
      refine lv_aload_n hx hb dX1_append_26 rfl (lv_at hl 0 rfl) ?_
      refine lv_iload_n hx hb dX1_append_27 rfl (lv_at hl 2 rfl) ?_
      refine kx_put q999 hF o hG hl (Nat.le_of_ble_eq_true rfl) (Nat.le_of_ble_eq_true rfl) h ⟨Nat.le_of_ble_eq_true rfl, Nat.le_of_ble_eq_true rfl⟩ (Nat.le_of_ble_eq_true rfl) dX1_append_28 (fun iv4 by5 G H locs h o hG => ?_)
      obtain ⟨hid, hL0, hsu, hsc, hfx, hfb, hfh, hfe, hfs⟩ := o.use
      refine lv_aload_n hx hb dX1_append_31 rfl (lv_at hl 0 rfl) ?_
      refine lv_iload_n hx hb dX1_append_32 rfl (lv_at hl 3 rfl) ?_
      refine kx_put q999 hF o hG hl (Nat.le_of_ble_eq_true rfl) (Nat.le_of_ble_eq_true rfl) h ⟨Nat.le_of_ble_eq_true rfl, Nat.le_of_ble_eq_true rfl⟩ (Nat.le_of_ble_eq_true rfl) dX1_append_33 (fun iv6 by7 G H locs h o hG => ?_)
      obtain ⟨hid, hL0, hsu, hsc, hfx, hfb, hfh, hfe, hfs⟩ := o.use
      refine lv_aload_n hx hb dX1_append_36 rfl (lv_at hl 0 rfl) ?_
      refine lv_iload hx hb dX1_append_37 (lv_at hl 4 rfl) ?_
      refine kx_put q999 hF o hG hl (Nat.le_of_ble_eq_true rfl) (Nat.le_of_ble_eq_true rfl) h ⟨Nat.le_of_ble_eq_true rfl, Nat.le_of_ble_eq_true rfl⟩ (Nat.le_of_ble_eq_true rfl) dX1_append_39 (fun iv8 by9 G H locs h o hG => ?_)
      obtain ⟨hid, hL0, hsu, hsc, hfx, hfb, hfh, hfe, hfs⟩ := o.use
      refine lv_aload_n hx hb dX1_append_42 rfl (lv_at hl 0 rfl) ?_
      refine lv_iload hx hb dX1_append_43 (lv_at hl 5 rfl) ?_
      refine kx_put q999 hF o hG hl (Nat.le_of_ble_eq_true rfl) (Nat.le_of_ble_eq_true rfl) h ⟨Nat.le_of_ble_eq_true rfl, Nat.le_of_ble_eq_true rfl⟩ (Nat.le_of_ble_eq_true rfl) dX1_append_45 (fun iv10 by11 G H locs h o hG => ?_)
      obtain ⟨hid, hL0, hsu, hsc, hfx, hfb, hfh, hfe, hfs⟩ := o.use
      refine lv_aload_n hx hb dX1_append_48 rfl (lv_at hl 0 rfl) ?_
      refine g_get hF hG hfx.rd (C := RX1) (T := TX1) (N := 7) rfl in_X1 1 (by decide) q751 (fun _ h => h) (v := .int (iv10 1)) rfl dX1_append_49 ?_
      have h := Option.some.inj h
      subst h
      exact hret _ _ _ _ _ (g_iret hQ' hG ⟨_, _, _, rfl, rfl, XW.upd ⟨bb, hd, he, sl, f, h9, t9, Bs, S, o⟩ gx_rfl⟩ (Nat.le_of_ble_eq_true rfl) (Nat.le_of_ble_eq_true rfl) dX1_append_52)
  refine gb_icmp_gt hx hb dX1_append_10 (tgt := 17) (by decide) h (fun h => ?_) (fun h => ?_)
  · refine lv_iconst (v := 0) hx hb dX1_append_17 (by decide) ?_
    exact J1 _ (Option.some.inj h).symm _ _ _ hG hl
  · refine lv_iconst (v := 1) hx hb dX1_append_13 (by decide) ?_
    refine lv_goto hx hb dX1_append_14 (tgt := 18) (by decide) ?_
    exact J1 _ (Option.some.inj h).symm _ _ _ hG hl
end X1L
