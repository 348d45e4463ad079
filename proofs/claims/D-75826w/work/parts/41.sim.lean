/-! what is played on a copy -/
def oN {γ : Type} (r : Option Int32) (P : Option γ) (f : Int32 → Option γ) : Option γ := match r with | none => P | some v => f v
section SIM
variable {p : Program} {l : Launch} {e : Env} {R : Room} {s : State} {m : MethodId} {args : Array Value} {below : List Frame} {meth : Method} {c : Code} {H : Heap} {locs : List Loc} {cells slots : Nat} {Q : State → Prop}
variable {cc : ByteArray} {pc : Nat} {ls : Array Slot} {rest : List Value} {A : Nat → Prop} {L0 n nL : Nat} {g : gNum} {own : String} {rm : Room} {γ : Type} {o : γ} {lv : List (Nat × Value)} {RR : Option Value → GH → Nat → Prop} {RT : String → Addr → GH → Prop} {mc ms : Nat} {ret : Option FieldType}
variable {b d x sz a u : Nat} {sc : SC} {su : SU} {σ : SS} {G0 G G1 : GH} {set : Int32} {index : Nat} {ev : va_E} {dA : Nat → ClassId} {iv by_ : Nat → Int32} {hi : List SS} {so : Nat → Option SS} {p0 : Int32}
theorem gx_two (hlt : ∀ a e, G a = some e → a < n) (hx : gx G G1) : gx G (sG dA n 0 u sc σ G1) := fun a e h => by rw [sG_out (gO_lo (hlt a e h))]; exact hx a e h
theorem suAt.lo (h : suAt b d G a ev) (hlt : ∀ a e, G a = some e → a < n) : suAt n 0 G a ev := ⟨h.1, gO_lo (hlt _ _ h.1)⟩
theorem suOK.lo (h : suOK dA su b d G) (hlt : ∀ a e, G a = some e → a < n) : suOK dA su n 0 G := by
  obtain ⟨h1, h2, h3, h4, h5, h6, h7, h8, h9⟩ := h
  exact ⟨h1.lo hlt, h2.lo hlt, h3.lo hlt, h4.lo hlt, h5.lo hlt, h6.lo hlt, fun k q => (h7 k q).lo hlt, fun k q => (h8 k q).lo hlt, h9⟩
theorem kx_ticks (hq : (Cond.methodLink own index yX1_ticksTo) ∈ lw_all) (hst : l.stackTraces = false) (hF : gXK p m c cc nL s args own g A R rm) (hQ : gQX p l e R s m args below meth c cc g.1 clX L0 A RR RT mc ms ret Q) (hnt : ∀ x ∈ c.exceptionTable.toList, False) (hL0 : L0 ≤ b) (hsu : suOK g.2.1 su b d G0) (hsc : suAt b d G0 sc.1 (.inl (g.2.1 0, sc.2.1, .inl sc.2.2))) (hG : gJK g L0 A s.heap (sG g.2.1 b d (su.1 0) sc σ G0) n H locs) (hl : lv_has ls nL lv) (r1 : 11 + 1 ≤ rm.frames) (r2 : 8 + (3 + 11) + 240 ≤ rm.locals) {F : Option Int32 → Option γ} (h : ob1 (c_ticks su sc set 502 0 σ) F = some o) (hc : cells + 1504 ≤ rm.cells ∧ slots + 9024 ≤ rm.slots) (hmc : cells + 1504 ≤ mc ∧ slots + 9024 ≤ ms) (hW : (rest.map fun v => v.category).sum ≤ 8) (hdg : decode cc pc = .ok (.invokestatic index, 3))
    (kx : F none = some o → ∀ q σ' G1, gx G0 G1 → RT (exN 4) q (sG g.2.1 b d (su.1 0) sc σ' G1)) (kk : ∀ (r : Int32) (σ' : SS) (G1 : GH) (n1 : Nat) (H1 : Heap) (locs1 : List Loc), F (some r) = some o → gx G0 G1 → gJK g L0 A s.heap (sG g.2.1 b d (su.1 0) sc σ' G1) n1 H1 locs1 → W p l e R s m args below meth c H1 locs1 (cells + 1504) (slots + 9024) Q (F0 m (pc + 3) ls (.int r :: rest))) : W p l e R s m args below meth c H locs cells slots Q (F0 m pc ls (.int set :: .ref b :: rest)) := by
  obtain ⟨r, hr, h⟩ := ob1_e h
  refine gx_callS hF hG hl (w_X1_ticksTo (sz := n) hst hL0 hsu hsc hr) (va_cwS 2 hF.1.2.2.2.2 (lw_S hq q1590 q82 q1591) rfl rfl rfl (by decide +kernel) (g_room hF r1 r2)) rfl rfl hW hdg (hfA hF.2.2.2.2 hc) (fun E q ce G1 n1 H1 locs1 hR hG1 h1 h2 h3 => ?_) (fun v' G1 n1 H1 locs1 hR hG1 => ?_)
  · obtain ⟨rfl, rfl, σ', G2, hx, rfl⟩ := hR
    exact gx_out hQ (fun x hx => (hnt x hx).elim) hG1 (kx h q σ' G2 hx) h1 h2 h3 hmc.1 hmc.2
  · obtain ⟨r, rfl, rfl, σ', G2, hx, rfl⟩ := hR
    exact kk r σ' G2 n1 H1 locs1 h hx hG1
def c_X1_runsIn (su : SU) (sc : SC) (σ : SS) (p0 : Int32) : Option (Nat ⊕ Int32) :=
  oe1 (ρ := Nat) (c_X1_outletAt su p0) (fun k => some (Sum.inl k)) fun (_ : Nat) =>
  gd (σ.1 25 = 0 ∨ σ.1 25 = 1) <| ob1 (c_ticks su sc (1 <<< (p0 &&& 31)) 502 0 (cpS σ)) fun r => oN r (some (Sum.inl 4)) fun v => some (Sum.inr v)
set_option maxRecDepth 100000 in
theorem w_X1_runsIn {l : Launch} (hst : l.stackTraces = false) (hX : XW g.2.1 L0 x (su, sc, σ, iv, by_, hi, so) b d G) {out : Nat ⊕ Int32} (h : c_X1_runsIn su sc σ p0 = some out) : gMetX l yX1_runsIn (ws_ yX1_runsIn cX1_runsIn 3 (some .int)) g.1 clX L0 (gK g) [.ref x, .int p0] G sz 13 300 1524 9342 (fun v G' n => ∃ r, out = .inr r ∧ v = some (.int r) ∧ gx G G') (fun E _ G' => ∃ k, out = .inl k ∧ E = exN k ∧ gx G G') := by
  refine gMetX.of (own := RX1) (gK_ok g) (by decide +kernel) (Nat.le_of_ble_eq_true rfl) rfl ?_
  intro p e R s m args below meth c A Q ls H hF hQ hnt hG hl
  have hx := hF.1.1
  have hb := hF.1.2.1
  obtain ⟨Q', hQ', hret⟩ := gx_ret hQ
  have hl : lv_has ls 3 [(0, .ref x), (1, .int p0)] := hl
  obtain ⟨bb, hd, he, sl, f, h9, t9, Bs, S, o⟩ := hX
  obtain ⟨hid, hL0, hsu, hsc, hfx, hfb, hfh, hfe, hfs⟩ := o.use
  have hgb : ∀ g0, gx G g0 → gx G (sG g.2.1 b d (su.1 0) sc σ g0) := fun g0 h => gx_blk o.2.2.2.2.2.1.2.1 h
  have hG : gJK g L0 A s.heap (sG g.2.1 b d (su.1 0) sc σ G) sz H [] := by
    rw [hid]
    exact hG
  unfold c_X1_runsIn at h
  refine lv_aload_n hx hb dX1_runsIn_0 rfl (lv_at hl 0 rfl) ?_
  refine lv_iload_n hx hb dX1_runsIn_1 rfl (lv_at hl 1 rfl) ?_
  refine kx_outletAt q1500 hst hF hQ hnt o hid hsu hfx hG hl (Nat.le_of_ble_eq_true rfl) (Nat.le_of_ble_eq_true rfl) h ⟨Nat.le_of_ble_eq_true rfl, Nat.le_of_ble_eq_true rfl⟩ ⟨Nat.le_of_ble_eq_true rfl, Nat.le_of_ble_eq_true rfl⟩ (Nat.le_of_ble_eq_true rfl) dX1_runsIn_2 (fun k h => by
    have h := Option.some.inj h
    subst h
    exact fun _ => ⟨k, rfl, rfl, hgb _ gx_rfl⟩) (fun i1 n1 H locs hi1 h hG => ?_)
  refine lv_astore_n hx hb dX1_runsIn_5 rfl hl (Nat.le_of_ble_eq_true rfl) (lv' := [(2, .ref (su.2.2.1 i1)), (0, .ref x), (1, .int p0)]) rfl (fun ls hl => ?_)
  refine lv_aload_n hx hb dX1_runsIn_6 rfl (lv_at hl 1 rfl) ?_
  rw [hid] at hG
  have hlt : ∀ a e, G a = some e → a < n1 := fun a e q => hG.lt q
  refine g_get hF hG hfx.1 (C := RX1) (T := TX1) (N := 7) rfl in_X1 4 (by decide) q754 (fun _ h => h) (v := .ref b) rfl dX1_runsIn_7 ?_
  obtain ⟨hz, h⟩ := gd_e h
  refine kx_copy q953 hF hG hl o.2.2.2.2.2.1 o.2.2.2.2.2.2.2.2.1 hz (Nat.le_of_ble_eq_true rfl) (Nat.le_of_ble_eq_true rfl) ⟨Nat.le_of_ble_eq_true rfl, Nat.le_of_ble_eq_true rfl⟩ (Nat.le_of_ble_eq_true rfl) dX1_runsIn_10 (fun H locs hG => ?_)
  refine lv_iconst (v := 1) hx hb dX1_runsIn_13 (by decide) ?_
  refine lv_iload_n hx hb dX1_runsIn_14 rfl (lv_at hl 2 rfl) ?_
  refine lv_ishl hx hb dX1_runsIn_15 ?_
  have hbn : b < n1 := hlt _ _ o.2.2.2.2.2.1.2.1.1
  refine kx_ticks q1589 hst hF hQ hnt (Nat.le_trans hL0 (Nat.le_of_lt hbn)) (hsu.lo hlt) (hsc.lo hlt) hG hl (Nat.le_of_ble_eq_true rfl) (Nat.le_of_ble_eq_true rfl) h ⟨Nat.le_of_ble_eq_true rfl, Nat.le_of_ble_eq_true rfl⟩ ⟨Nat.le_of_ble_eq_true rfl, Nat.le_of_ble_eq_true rfl⟩ (Nat.le_of_ble_eq_true rfl) dX1_runsIn_16 (fun h q σ' G1 hx1 => ?_) (fun r σ' G1 n2 H locs h hx1 hG => ?_)
  · exact ⟨4, (Option.some.inj h).symm, rfl, gx_two hlt hx1⟩
  · exact hret _ _ _ _ _ (g_iret hQ' hG ⟨r, (Option.some.inj h).symm, rfl, gx_two hlt hx1⟩ (Nat.le_of_ble_eq_true rfl) (Nat.le_of_ble_eq_true rfl) dX1_runsIn_19)
end SIM
