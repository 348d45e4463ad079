/-! the law's wrappers: a call of the component, its exceptions caught and counted -/
/-- the number that a wrapper answers: 0, or the place of the exception among those it catches -/
def xk (h1 : Nat) : (Nat ⊕ Int32) → Int32 | .inr _ => 0 | .inl k => if k = h1 then 1 else 2
/-- what a wrapper leaves: the component's cells Gs' within G', the answer's array, the cells of others -/
def OW (dA : Nat → ClassId) (L0 sz : Nat) (Gs G : GH) (oa : Nat) (fl : Nat → Int64) (Gs' G' : GH) : Prop := gx Gs' G' ∧ (∀ a, L0 ≤ a → a < sz → Gs a = none → Gs' a = none) ∧ G' oa = some (.inl (dA 3, 1, .inr (.inl fl))) ∧ ∀ a e, L0 ≤ a → Gs a = none → G a = some e → a ≠ oa → G' a = some e
/-- .. without an array -/
def OV (L0 sz : Nat) (Gs G : GH) (Gs' G' : GH) : Prop := gx Gs' G' ∧ (∀ a, L0 ≤ a → a < sz → Gs a = none → Gs' a = none) ∧ ∀ a e, L0 ≤ a → Gs a = none → G a = some e → G' a = some e
theorem OV.of {D : va_G} {cl : List vw_C} {A : Nat → Prop} {H0 H : Heap} {locs : List Loc} {L0 sz : Nat} {Gs G Gs' : GH} (hG : gJ D cl L0 A H0 G sz H locs) (hn : ∀ a, L0 ≤ a → a < sz → Gs a = none → Gs' a = none) : OV L0 sz Gs G Gs' (frG L0 Gs G Gs') :=
  ⟨fun a e h => frG_new h, hn, fun a e h1 h2 h3 => frG_old (hn a h1 (hG.lt h3) h2) h1 h2 h3⟩
theorem OV.toW {dA : Nat → ClassId} {L0 sz oa : Nat} {Gs G Gs' G' : GH} {fl : Nat → Int64} (o : OV L0 sz Gs G Gs' G') (hoL : L0 ≤ oa) (hon : Gs oa = none) (ho : G oa = some (.inl (dA 3, 1, .inr (.inl fl)))) : OW dA L0 sz Gs G oa fl Gs' G' := ⟨o.1, o.2.1, o.2.2 oa _ hoL hon ho, fun a e h1 h2 h3 _ => o.2.2 a e h1 h2 h3⟩
theorem OV.set {dA : Nat → ClassId} {L0 sz oa : Nat} {Gs G Gs' G' : GH} {fl : Nat → Int64} (o : OV L0 sz Gs G Gs' G') (hoL : L0 ≤ oa) (hon : Gs oa = none) (hos : oa < sz) : OW dA L0 sz Gs G oa fl Gs' (gU G' oa (.inl (dA 3, 1, .inr (.inl fl)))) := by
  refine ⟨fun a e h => ?_, o.2.1, gU_s, fun a e h1 h2 h3 h4 => ?_⟩
  · rw [gU_n (fun q => by rw [q, o.2.1 oa hoL hos hon] at h; cases h)]
    exact o.1 a e h
  · rw [gU_n h4]
    exact o.2.2 a e h1 h2 h3
section X0
variable {p : Program} {l : Launch} {e : Env} {R : Room} {s : State} {m : MethodId} {args : Array Value} {below : List Frame} {meth : Method} {c : Code} {H : Heap} {locs : List Loc} {cells slots : Nat} {Q : State → Prop}
variable {cc : ByteArray} {pc : Nat} {ls : Array Slot} {rest : List Value} {A : Nat → Prop} {a L0 n nL : Nat} {g : gNum} {own : String} {G Gs : GH}
theorem gx_callVF {y : MethodName} {bytes : ByteArray} {maxL k index fr lo mc ms : Nat} {ret : Option FieldType} {ws : List Cond} {As st0 : List Value} {lv : List (Nat × Value)} {RR : Option Value → GH → Nat → Prop} {RT : String → Addr → GH → Prop} {rm : Room} (hF : gXK p m c cc nL s args own g A R rm) (hG : gJK g L0 A s.heap G n H locs) (hGs : gx Gs G) (hl : lv_has ls nL lv) {C : String} {T : u_T} {N ci : Nat} {fs : List Value} (he : Gs a = some (.inr (ci, fs))) (hc : clX[ci]? = some (C, T, N)) (hM : gMetX l y ws g.1 clX L0 (gK g) (.ref a :: As) Gs n fr lo mc ms RR RT) (cw : CallW R s args own C index y bytes maxL ret ws ({ frames := fr, cells := mc, slots := ms, locals := lo } : Room) mc ms k) (hn : As.length = k) (hstack : st0 = As.reverse ++ .ref a :: rest) (hW : (rest.map fun v => v.category).sum ≤ 8) (hdg : decode cc pc = .ok (.invokevirtual index, 3)) (hf : cells + mc ≤ R.cells ∧ slots + ms ≤ R.slots)
    (kx : ∀ (E : String) (q : Addr) (ce : Cell) (G' : GH) (n' : Nat) (H' : Heap) (locs' : List Loc), RT E q G' → OV L0 n Gs G G' (frG L0 Gs G G') → gJK g L0 A s.heap (frG L0 Gs G G') n' H' locs' → H'[q]? = some ce → ce.vm = .none → s.vm.findClass E = some ce.cls → vx_W p l e R s m args below meth c H' locs' (cells + mc) (slots + ms) Q (F0 m pc ls rest) q)
    (kk : ∀ (v : Option Value) (G' : GH) (n' : Nat) (H' : Heap) (locs' : List Loc), RR v G' n' → OV L0 n Gs G G' (frG L0 Gs G G') → gJK g L0 A s.heap (frG L0 Gs G G') n' H' locs' → W p l e R s m args below meth c H' locs' (cells + mc) (slots + ms) Q (F0 m (pc + 3) ls (v.toList ++ rest))) : W p l e R s m args below meth c H locs cells slots Q (F0 m pc ls st0) :=
  gx_callF (vx_runV hF.1 hM cw ⟨gPc_blind hF.2.2.1, g_recv hF (hG.weak hGs) he hc, g_pre hF (hG.weak hGs) _⟩ rfl hn hl.1 hstack (lv_room hW) hdg hf) hG hGs (fun E q ce G' n' H' locs' h1 h2 h3 => kx E q ce G' n' H' locs' h1 (OV.of hG h2) h3) (fun v G' n' H' locs' h1 h2 h3 => kk v G' n' H' locs' h1 (OV.of hG h2) h3)
/-! allIn -/
set_option maxRecDepth 100000 in
theorem w_X0_allIn {l : Launch} {x sz fr lo mc ms : Nat} {fx : List Value} {p0 : Int32} {r : XR} (hM : gMetX l yX1_allIn (ws_ yX1_allIn cX1_allIn 4 (some .int)) g.1 clX L0 (gK g) [.ref x, .int p0] Gs sz fr lo mc ms (XRR g.2.1 L0 x r) (XRT g.2.1 L0 x r)) (hGs : gx Gs G) (hx0 : Gs x = some (.inr (0, fx))) {oa : Nat} {fl : Nat → Int64} (ho : G oa = some (.inl (g.2.1 3, 1, .inr (.inl fl)))) (hoL : L0 ≤ oa) (hon : Gs oa = none) (hex : ∀ k, r.1 = .inl k → k = 1 ∨ k = 4) : gMetX l yX0_allIn (wsW_ yX0_allIn cX0_allIn 4 (some .int) [(0, 9, 12, 25), (0, 9, 15, 30)]) g.1 clX L0 (gK g) [.ref x, .int p0, .ref oa] G sz (fr + 1) (lo + 60) mc ms (fun v G' n => ∃ Gs' b' d' fl', XW g.2.1 L0 x r.2 b' d' Gs' ∧ v = some (.int (xk 1 r.1)) ∧ (∀ k, r.1 = .inr k → fl' 0 = k.toInt64) ∧ OW g.2.1 L0 sz Gs G oa fl' Gs' G') (fun _ _ _ => False) := by
  refine gMetX.ofH (own := RX0) (gK_ok g) (by decide +kernel) (Nat.le_of_ble_eq_true rfl) rfl ?_
  intro p e R s m args below meth c A Q ls H hF hQ htab hG hl
  have hx := hF.1.1
  have hb := hF.1.2.1
  have hts := hF.1.2.2.2.2
  obtain ⟨Q', hQ', hret⟩ := gx_ret hQ
  have hlt0 : oa < sz := hG.lt ho
  have hl : lv_has ls 4 [(0, .ref x), (1, .int p0), (2, .ref oa)] := hl
  refine lv_aload_n hx hb dX0_allIn_0 rfl (lv_at hl 2 rfl) ?_
  refine lv_iconst (v := 0) hx hb dX0_allIn_1 (by decide) ?_
  refine lv_aload_n hx hb dX0_allIn_2 rfl (lv_at hl 0 rfl) ?_
  refine lv_iload_n hx hb dX0_allIn_3 rfl (lv_at hl 1 rfl) ?_
  refine gx_callVF hF hG hGs hl hx0 (C := RX1) (T := TX1) (N := 7) rfl hM (cwV 1 hF.1.2.2.2.2 (lw_V q1711 q1712 q1713 q82 q1714) rfl rfl rfl (by decide +kernel) ⟨by rw [hF.2.2.2.2]; exact Nat.le_refl _, by rw [hF.2.2.2.2]; show 8 + (4 + 11) + lo ≤ lo + 60; omega⟩) (As := [.int p0]) rfl rfl (Nat.le_of_ble_eq_true rfl) dX0_allIn_4 ⟨by rw [hF.2.2.2.2]; show 0 + mc ≤ mc; omega, by rw [hF.2.2.2.2]; show 0 + ms ≤ ms; omega⟩ (fun E q ce G1 n1 H locs hR hO hG h1 h2 h3 => ?_) (fun v1 G1 n1 H locs hR hO hG => ?_)
  · obtain ⟨k, hk, rfl, b', d', hXW⟩ := hR
    rcases hex k hk with hk2 | hk2
    · subst hk2
      refine g_catch1 hF htab rfl (by decide) q1053 q156 h1 h2 h3 ?_
      refine lv_astore_n hx hb dX0_allIn_12 rfl hl (Nat.le_of_ble_eq_true rfl) (lv' := (3, .ref q) :: [(0, .ref x), (1, .int p0), (2, .ref oa)]) rfl (fun ls hl => ?_)
      refine lv_iconst (v := 1) hx hb dX0_allIn_13 (by decide) ?_
      exact hret _ _ _ _ _ (g_iret hQ' hG ⟨G1, b', d', fl, hXW, by rw [hk]; rfl, (fun k q => by rw [hk] at q; cases q), hO.toW hoL hon ho⟩ (by omega) (by omega) dX0_allIn_14)
    · subst hk2
      refine g_catch2 hF htab (by decide) q1053 (by decide) rfl (by decide) q1464 q868 h1 h2 h3 ?_
      refine lv_astore_n hx hb dX0_allIn_15 rfl hl (Nat.le_of_ble_eq_true rfl) (lv' := (3, .ref q) :: [(0, .ref x), (1, .int p0), (2, .ref oa)]) rfl (fun ls hl => ?_)
      refine lv_iconst (v := 2) hx hb dX0_allIn_16 (by decide) ?_
      exact hret _ _ _ _ _ (g_iret hQ' hG ⟨G1, b', d', fl, hXW, by rw [hk]; rfl, (fun k q => by rw [hk] at q; cases q), hO.toW hoL hon ho⟩ (by omega) (by omega) dX0_allIn_17)
  · obtain ⟨k, hk, rfl, b', d', hXW⟩ := hR
    refine lv_i2l hx hb dX0_allIn_7 rfl ?_
    refine g_last hF hG (hO.toW (dA := g.2.1) hoL hon ho).2.2.1 hoL 3 rfl (show vp_in 0 1 from nI_in (c := 0) (by decide) (by decide)) dX0_allIn_8 (fun H locs hG => ?_)
    refine lv_goto hx hb dX0_allIn_9 (tgt := 18) (by decide) ?_
    refine lv_iconst (v := 0) hx hb dX0_allIn_18 (by decide) ?_
    exact hret _ _ _ _ _ (g_iret hQ' hG ⟨G1, b', d', _, hXW, by rw [hk]; rfl, (fun j q => by rw [hk] at q; cases q; rfl), hO.set hoL hon (hlt0)⟩ (by omega) (by omega) dX0_allIn_19)
/-! append -/
set_option maxRecDepth 100000 in
theorem w_X0_append {l : Launch} {x sz fr lo mc ms : Nat} {fx : List Value} {p0 : Int32} {p1 : Int32} {p2 : Int32} {p3 : Int32} {p4 : Int32} {r : XR} (hM : gMetX l yX1_append (ws_ yX1_append cX1_append 6 (some .int)) g.1 clX L0 (gK g) [.ref x, .int p0, .int p1, .int p2, .int p3, .int p4] Gs sz fr lo mc ms (XRR g.2.1 L0 x r) (XRT g.2.1 L0 x r)) (hGs : gx Gs G) (hx0 : Gs x = some (.inr (0, fx))) {oa : Nat} {fl : Nat → Int64} (ho : G oa = some (.inl (g.2.1 3, 1, .inr (.inl fl)))) (hoL : L0 ≤ oa) (hon : Gs oa = none) (hex : ∀ k, r.1 = .inl k → k = 2) : gMetX l yX0_append (wsW_ yX0_append cX0_append 8 (some .int) [(0, 16, 19, 13)]) g.1 clX L0 (gK g) [.ref x, .int p0, .int p1, .int p2, .int p3, .int p4, .ref oa] G sz (fr + 1) (lo + 60) mc ms (fun v G' n => ∃ Gs' b' d' fl', XW g.2.1 L0 x r.2 b' d' Gs' ∧ v = some (.int (xk 2 r.1)) ∧ (∀ k, r.1 = .inr k → fl' 0 = k.toInt64) ∧ OW g.2.1 L0 sz Gs G oa fl' Gs' G') (fun _ _ _ => False) := by
  refine gMetX.ofH (own := RX0) (gK_ok g) (by decide +kernel) (Nat.le_of_ble_eq_true rfl) rfl ?_
  intro p e R s m args below meth c A Q ls H hF hQ htab hG hl
  have hx := hF.1.1
  have hb := hF.1.2.1
  have hts := hF.1.2.2.2.2
  obtain ⟨Q', hQ', hret⟩ := gx_ret hQ
  have hlt0 : oa < sz := hG.lt ho
  have hl : lv_has ls 8 [(0, .ref x), (1, .int p0), (2, .int p1), (3, .int p2), (4, .int p3), (5, .int p4), (6, .ref oa)] := hl
  refine lv_aload hx hb dX0_append_0 (lv_at hl 6 rfl) ?_
  refine lv_iconst (v := 0) hx hb dX0_append_2 (by decide) ?_
  refine lv_aload_n hx hb dX0_append_3 rfl (lv_at hl 0 rfl) ?_
  refine lv_iload_n hx hb dX0_append_4 rfl (lv_at hl 1 rfl) ?_
  refine lv_iload_n hx hb dX0_append_5 rfl (lv_at hl 2 rfl) ?_
  refine lv_iload_n hx hb dX0_append_6 rfl (lv_at hl 3 rfl) ?_
  refine lv_iload hx hb dX0_append_7 (lv_at hl 4 rfl) ?_
  refine lv_iload hx hb dX0_append_9 (lv_at hl 5 rfl) ?_
  refine gx_callVF hF hG hGs hl hx0 (C := RX1) (T := TX1) (N := 7) rfl hM (cwV 5 hF.1.2.2.2.2 (lw_V q987 q988 q989 q82 q990) rfl rfl rfl (by decide +kernel) ⟨by rw [hF.2.2.2.2]; exact Nat.le_refl _, by rw [hF.2.2.2.2]; show 8 + (6 + 11) + lo ≤ lo + 60; omega⟩) (As := [.int p0, .int p1, .int p2, .int p3, .int p4]) rfl rfl (Nat.le_of_ble_eq_true rfl) dX0_append_11 ⟨by rw [hF.2.2.2.2]; show 0 + mc ≤ mc; omega, by rw [hF.2.2.2.2]; show 0 + ms ≤ ms; omega⟩ (fun E q ce G1 n1 H locs hR hO hG h1 h2 h3 => ?_) (fun v1 G1 n1 H locs hR hO hG => ?_)
  · obtain ⟨k, hk, rfl, b', d', hXW⟩ := hR
    have hk2 := hex k hk
    subst hk2
    refine g_catch1 hF htab rfl (by decide) q986 q902 h1 h2 h3 ?_
    refine lv_astore hx hb dX0_append_19 hl (Nat.le_of_ble_eq_true rfl) (lv' := (7, .ref q) :: [(0, .ref x), (1, .int p0), (2, .int p1), (3, .int p2), (4, .int p3), (5, .int p4), (6, .ref oa)]) rfl (fun ls hl => ?_)
    refine lv_iconst (v := 1) hx hb dX0_append_21 (by decide) ?_
    exact hret _ _ _ _ _ (g_iret hQ' hG ⟨G1, b', d', fl, hXW, by rw [hk]; rfl, (fun k q => by rw [hk] at q; cases q), hO.toW hoL hon ho⟩ (by omega) (by omega) dX0_append_22)
  · obtain ⟨k, hk, rfl, b', d', hXW⟩ := hR
    refine lv_i2l hx hb dX0_append_14 rfl ?_
    refine g_last hF hG (hO.toW (dA := g.2.1) hoL hon ho).2.2.1 hoL 3 rfl (show vp_in 0 1 from nI_in (c := 0) (by decide) (by decide)) dX0_append_15 (fun H locs hG => ?_)
    refine lv_goto hx hb dX0_append_16 (tgt := 23) (by decide) ?_
    refine lv_iconst (v := 0) hx hb dX0_append_23 (by decide) ?_
    exact hret _ _ _ _ _ (g_iret hQ' hG ⟨G1, b', d', _, hXW, by rw [hk]; rfl, (fun j q => by rw [hk] at q; cases q; rfl), hO.set hoL hon (hlt0)⟩ (by omega) (by omega) dX0_append_24)
/-! blackout -/
set_option maxRecDepth 100000 in
theorem w_X0_blackout {l : Launch} {x sz fr lo mc ms : Nat} {fx : List Value} {p0 : Int32} {r : XR} (hM : gMetX l yX1_blackout (ws_ yX1_blackout cX1_blackout 2 (some .int)) g.1 clX L0 (gK g) [.ref x, .int p0] Gs sz fr lo mc ms (XRR g.2.1 L0 x r) (XRT g.2.1 L0 x r)) (hGs : gx Gs G) (hx0 : Gs x = some (.inr (0, fx))) {oa : Nat} {fl : Nat → Int64} (ho : G oa = some (.inl (g.2.1 3, 1, .inr (.inl fl)))) (hoL : L0 ≤ oa) (hon : Gs oa = none) (hex : ∀ k, r.1 = .inl k → k = 1) : gMetX l yX0_blackout (wsW_ yX0_blackout cX0_blackout 4 (some .int) [(0, 9, 12, 25)]) g.1 clX L0 (gK g) [.ref x, .int p0, .ref oa] G sz (fr + 1) (lo + 60) mc ms (fun v G' n => ∃ Gs' b' d' fl', XW g.2.1 L0 x r.2 b' d' Gs' ∧ v = some (.int (xk 1 r.1)) ∧ (∀ k, r.1 = .inr k → fl' 0 = k.toInt64) ∧ OW g.2.1 L0 sz Gs G oa fl' Gs' G') (fun _ _ _ => False) := by
  refine gMetX.ofH (own := RX0) (gK_ok g) (by decide +kernel) (Nat.le_of_ble_eq_true rfl) rfl ?_
  intro p e R s m args below meth c A Q ls H hF hQ htab hG hl
  have hx := hF.1.1
  have hb := hF.1.2.1
  have hts := hF.1.2.2.2.2
  obtain ⟨Q', hQ', hret⟩ := gx_ret hQ
  have hlt0 : oa < sz := hG.lt ho
  have hl : lv_has ls 4 [(0, .ref x), (1, .int p0), (2, .ref oa)] := hl
  refine lv_aload_n hx hb dX0_blackout_0 rfl (lv_at hl 2 rfl) ?_
  refine lv_iconst (v := 0) hx hb dX0_blackout_1 (by decide) ?_
  refine lv_aload_n hx hb dX0_blackout_2 rfl (lv_at hl 0 rfl) ?_
  refine lv_iload_n hx hb dX0_blackout_3 rfl (lv_at hl 1 rfl) ?_
  refine gx_callVF hF hG hGs hl hx0 (C := RX1) (T := TX1) (N := 7) rfl hM (cwV 1 hF.1.2.2.2.2 (lw_V q1745 q1746 q1747 q82 q1748) rfl rfl rfl (by decide +kernel) ⟨by rw [hF.2.2.2.2]; exact Nat.le_refl _, by rw [hF.2.2.2.2]; show 8 + (2 + 11) + lo ≤ lo + 60; omega⟩) (As := [.int p0]) rfl rfl (Nat.le_of_ble_eq_true rfl) dX0_blackout_4 ⟨by rw [hF.2.2.2.2]; show 0 + mc ≤ mc; omega, by rw [hF.2.2.2.2]; show 0 + ms ≤ ms; omega⟩ (fun E q ce G1 n1 H locs hR hO hG h1 h2 h3 => ?_) (fun v1 G1 n1 H locs hR hO hG => ?_)
  · obtain ⟨k, hk, rfl, b', d', hXW⟩ := hR
    have hk2 := hex k hk
    subst hk2
    refine g_catch1 hF htab rfl (by decide) q1053 q156 h1 h2 h3 ?_
    refine lv_astore_n hx hb dX0_blackout_12 rfl hl (Nat.le_of_ble_eq_true rfl) (lv' := (3, .ref q) :: [(0, .ref x), (1, .int p0), (2, .ref oa)]) rfl (fun ls hl => ?_)
    refine lv_iconst (v := 1) hx hb dX0_blackout_13 (by decide) ?_
    exact hret _ _ _ _ _ (g_iret hQ' hG ⟨G1, b', d', fl, hXW, by rw [hk]; rfl, (fun k q => by rw [hk] at q; cases q), hO.toW hoL hon ho⟩ (by omega) (by omega) dX0_blackout_14)
  · obtain ⟨k, hk, rfl, b', d', hXW⟩ := hR
    refine lv_i2l hx hb dX0_blackout_7 rfl ?_
    refine g_last hF hG (hO.toW (dA := g.2.1) hoL hon ho).2.2.1 hoL 3 rfl (show vp_in 0 1 from nI_in (c := 0) (by decide) (by decide)) dX0_blackout_8 (fun H locs hG => ?_)
    refine lv_goto hx hb dX0_blackout_9 (tgt := 15) (by decide) ?_
    refine lv_iconst (v := 0) hx hb dX0_blackout_15 (by decide) ?_
    exact hret _ _ _ _ _ (g_iret hQ' hG ⟨G1, b', d', _, hXW, by rw [hk]; rfl, (fun j q => by rw [hk] at q; cases q; rfl), hO.set hoL hon (hlt0)⟩ (by omega) (by omega) dX0_blackout_16)
/-! count -/
set_option maxRecDepth 100000 in
theorem w_X0_count {l : Launch} {x sz fr lo mc ms : Nat} {fx : List Value} {p0 : Int32} {r : XR} (hM : gMetX l yX1_count (ws_ yX1_count cX1_count 2 (some .int)) g.1 clX L0 (gK g) [.ref x, .int p0] Gs sz fr lo mc ms (XRR g.2.1 L0 x r) (XRT g.2.1 L0 x r)) (hGs : gx Gs G) (hx0 : Gs x = some (.inr (0, fx))) {oa : Nat} {fl : Nat → Int64} (ho : G oa = some (.inl (g.2.1 3, 1, .inr (.inl fl)))) (hoL : L0 ≤ oa) (hon : Gs oa = none) (hex : ∀ k, r.1 = .inl k → k = 1) : gMetX l yX0_count (wsW_ yX0_count cX0_count 4 (some .int) [(0, 9, 12, 25)]) g.1 clX L0 (gK g) [.ref x, .int p0, .ref oa] G sz (fr + 1) (lo + 60) mc ms (fun v G' n => ∃ Gs' b' d' fl', XW g.2.1 L0 x r.2 b' d' Gs' ∧ v = some (.int (xk 1 r.1)) ∧ (∀ k, r.1 = .inr k → fl' 0 = k.toInt64) ∧ OW g.2.1 L0 sz Gs G oa fl' Gs' G') (fun _ _ _ => False) := by
  refine gMetX.ofH (own := RX0) (gK_ok g) (by decide +kernel) (Nat.le_of_ble_eq_true rfl) rfl ?_
  intro p e R s m args below meth c A Q ls H hF hQ htab hG hl
  have hx := hF.1.1
  have hb := hF.1.2.1
  have hts := hF.1.2.2.2.2
  obtain ⟨Q', hQ', hret⟩ := gx_ret hQ
  have hlt0 : oa < sz := hG.lt ho
  have hl : lv_has ls 4 [(0, .ref x), (1, .int p0), (2, .ref oa)] := hl
  refine lv_aload_n hx hb dX0_count_0 rfl (lv_at hl 2 rfl) ?_
  refine lv_iconst (v := 0) hx hb dX0_count_1 (by decide) ?_
  refine lv_aload_n hx hb dX0_count_2 rfl (lv_at hl 0 rfl) ?_
  refine lv_iload_n hx hb dX0_count_3 rfl (lv_at hl 1 rfl) ?_
  refine gx_callVF hF hG hGs hl hx0 (C := RX1) (T := TX1) (N := 7) rfl hM (cwV 1 hF.1.2.2.2.2 (lw_V q1482 q1483 q1484 q82 q1485) rfl rfl rfl (by decide +kernel) ⟨by rw [hF.2.2.2.2]; exact Nat.le_refl _, by rw [hF.2.2.2.2]; show 8 + (2 + 11) + lo ≤ lo + 60; omega⟩) (As := [.int p0]) rfl rfl (Nat.le_of_ble_eq_true rfl) dX0_count_4 ⟨by rw [hF.2.2.2.2]; show 0 + mc ≤ mc; omega, by rw [hF.2.2.2.2]; show 0 + ms ≤ ms; omega⟩ (fun E q ce G1 n1 H locs hR hO hG h1 h2 h3 => ?_) (fun v1 G1 n1 H locs hR hO hG => ?_)
  · obtain ⟨k, hk, rfl, b', d', hXW⟩ := hR
    have hk2 := hex k hk
    subst hk2
    refine g_catch1 hF htab rfl (by decide) q1053 q156 h1 h2 h3 ?_
    refine lv_astore_n hx hb dX0_count_12 rfl hl (Nat.le_of_ble_eq_true rfl) (lv' := (3, .ref q) :: [(0, .ref x), (1, .int p0), (2, .ref oa)]) rfl (fun ls hl => ?_)
    refine lv_iconst (v := 1) hx hb dX0_count_13 (by decide) ?_
    exact hret _ _ _ _ _ (g_iret hQ' hG ⟨G1, b', d', fl, hXW, by rw [hk]; rfl, (fun k q => by rw [hk] at q; cases q), hO.toW hoL hon ho⟩ (by omega) (by omega) dX0_count_14)
  · obtain ⟨k, hk, rfl, b', d', hXW⟩ := hR
    refine lv_i2l hx hb dX0_count_7 rfl ?_
    refine g_last hF hG (hO.toW (dA := g.2.1) hoL hon ho).2.2.1 hoL 3 rfl (show vp_in 0 1 from nI_in (c := 0) (by decide) (by decide)) dX0_count_8 (fun H locs hG => ?_)
    refine lv_goto hx hb dX0_count_9 (tgt := 15) (by decide) ?_
    refine lv_iconst (v := 0) hx hb dX0_count_15 (by decide) ?_
    exact hret _ _ _ _ _ (g_iret hQ' hG ⟨G1, b', d', _, hXW, by rw [hk]; rfl, (fun j q => by rw [hk] at q; cases q; rfl), hO.set hoL hon (hlt0)⟩ (by omega) (by omega) dX0_count_16)
/-! find -/
set_option maxRecDepth 100000 in
theorem w_X0_find {l : Launch} {x sz fr lo mc ms : Nat} {fx : List Value} {r : XR} (hM : gMetX l yX1_find (ws_ yX1_find cX1_find 3 (some .int)) g.1 clX L0 (gK g) [.ref x] Gs sz fr lo mc ms (XRR g.2.1 L0 x r) (XRT g.2.1 L0 x r)) (hGs : gx Gs G) (hx0 : Gs x = some (.inr (0, fx))) {oa : Nat} {fl : Nat → Int64} (ho : G oa = some (.inl (g.2.1 3, 1, .inr (.inl fl)))) (hoL : L0 ≤ oa) (hon : Gs oa = none) (hex : ∀ k, r.1 = .inl k → k = 4) : gMetX l yX0_find (wsW_ yX0_find cX0_find 3 (some .int) [(0, 8, 11, 30)]) g.1 clX L0 (gK g) [.ref x, .ref oa] G sz (fr + 1) (lo + 60) mc ms (fun v G' n => ∃ Gs' b' d' fl', XW g.2.1 L0 x r.2 b' d' Gs' ∧ v = some (.int (xk 4 r.1)) ∧ (∀ k, r.1 = .inr k → fl' 0 = k.toInt64) ∧ OW g.2.1 L0 sz Gs G oa fl' Gs' G') (fun _ _ _ => False) := by
  refine gMetX.ofH (own := RX0) (gK_ok g) (by decide +kernel) (Nat.le_of_ble_eq_true rfl) rfl ?_
  intro p e R s m args below meth c A Q ls H hF hQ htab hG hl
  have hx := hF.1.1
  have hb := hF.1.2.1
  have hts := hF.1.2.2.2.2
  obtain ⟨Q', hQ', hret⟩ := gx_ret hQ
  have hlt0 : oa < sz := hG.lt ho
  have hl : lv_has ls 3 [(0, .ref x), (1, .ref oa)] := hl
  refine lv_aload_n hx hb dX0_find_0 rfl (lv_at hl 1 rfl) ?_
  refine lv_iconst (v := 0) hx hb dX0_find_1 (by decide) ?_
  refine lv_aload_n hx hb dX0_find_2 rfl (lv_at hl 0 rfl) ?_
  refine gx_callVF hF hG hGs hl hx0 (C := RX1) (T := TX1) (N := 7) rfl hM (cwV 0 hF.1.2.2.2.2 (lw_V q1465 q1466 q1467 q82 q1468) rfl rfl rfl (by decide +kernel) ⟨by rw [hF.2.2.2.2]; exact Nat.le_refl _, by rw [hF.2.2.2.2]; show 8 + (3 + 11) + lo ≤ lo + 60; omega⟩) (As := []) rfl rfl (Nat.le_of_ble_eq_true rfl) dX0_find_3 ⟨by rw [hF.2.2.2.2]; show 0 + mc ≤ mc; omega, by rw [hF.2.2.2.2]; show 0 + ms ≤ ms; omega⟩ (fun E q ce G1 n1 H locs hR hO hG h1 h2 h3 => ?_) (fun v1 G1 n1 H locs hR hO hG => ?_)
  · obtain ⟨k, hk, rfl, b', d', hXW⟩ := hR
    have hk2 := hex k hk
    subst hk2
    refine g_catch1 hF htab rfl (by decide) q1464 q868 h1 h2 h3 ?_
    refine lv_astore_n hx hb dX0_find_11 rfl hl (Nat.le_of_ble_eq_true rfl) (lv' := (2, .ref q) :: [(0, .ref x), (1, .ref oa)]) rfl (fun ls hl => ?_)
    refine lv_iconst (v := 1) hx hb dX0_find_12 (by decide) ?_
    exact hret _ _ _ _ _ (g_iret hQ' hG ⟨G1, b', d', fl, hXW, by rw [hk]; rfl, (fun k q => by rw [hk] at q; cases q), hO.toW hoL hon ho⟩ (by omega) (by omega) dX0_find_13)
  · obtain ⟨k, hk, rfl, b', d', hXW⟩ := hR
    refine lv_i2l hx hb dX0_find_6 rfl ?_
    refine g_last hF hG (hO.toW (dA := g.2.1) hoL hon ho).2.2.1 hoL 3 rfl (show vp_in 0 1 from nI_in (c := 0) (by decide) (by decide)) dX0_find_7 (fun H locs hG => ?_)
    refine lv_goto hx hb dX0_find_8 (tgt := 14) (by decide) ?_
    refine lv_iconst (v := 0) hx hb dX0_find_14 (by decide) ?_
    exact hret _ _ _ _ _ (g_iret hQ' hG ⟨G1, b', d', _, hXW, by rw [hk]; rfl, (fun j q => by rw [hk] at q; cases q; rfl), hO.set hoL hon (hlt0)⟩ (by omega) (by omega) dX0_find_15)
/-! known -/
set_option maxRecDepth 100000 in
theorem w_X0_known {l : Launch} {x sz fr lo mc ms : Nat} {fx : List Value} {p0 : Int32} {p1 : Int32} {r : XR} (hM : gMetX l yX1_known (ws_ yX1_known cX1_known 4 (some .int)) g.1 clX L0 (gK g) [.ref x, .int p0, .int p1] Gs sz fr lo mc ms (XRR g.2.1 L0 x r) (XRT g.2.1 L0 x r)) (hGs : gx Gs G) (hx0 : Gs x = some (.inr (0, fx))) {oa : Nat} {fl : Nat → Int64} (ho : G oa = some (.inl (g.2.1 3, 1, .inr (.inl fl)))) (hoL : L0 ≤ oa) (hon : Gs oa = none) (hex : ∀ k, r.1 = .inl k → k = 3 ∨ k = 1) : gMetX l yX0_known (wsW_ yX0_known cX0_known 5 (some .int) [(0, 10, 13, 19), (0, 10, 17, 25)]) g.1 clX L0 (gK g) [.ref x, .int p0, .int p1, .ref oa] G sz (fr + 1) (lo + 60) mc ms (fun v G' n => ∃ Gs' b' d' fl', XW g.2.1 L0 x r.2 b' d' Gs' ∧ v = some (.int (xk 3 r.1)) ∧ (∀ k, r.1 = .inr k → fl' 0 = k.toInt64) ∧ OW g.2.1 L0 sz Gs G oa fl' Gs' G') (fun _ _ _ => False) := by
  refine gMetX.ofH (own := RX0) (gK_ok g) (by decide +kernel) (Nat.le_of_ble_eq_true rfl) rfl ?_
  intro p e R s m args below meth c A Q ls H hF hQ htab hG hl
  have hx := hF.1.1
  have hb := hF.1.2.1
  have hts := hF.1.2.2.2.2
  obtain ⟨Q', hQ', hret⟩ := gx_ret hQ
  have hlt0 : oa < sz := hG.lt ho
  have hl : lv_has ls 5 [(0, .ref x), (1, .int p0), (2, .int p1), (3, .ref oa)] := hl
  refine lv_aload_n hx hb dX0_known_0 rfl (lv_at hl 3 rfl) ?_
  refine lv_iconst (v := 0) hx hb dX0_known_1 (by decide) ?_
  refine lv_aload_n hx hb dX0_known_2 rfl (lv_at hl 0 rfl) ?_
  refine lv_iload_n hx hb dX0_known_3 rfl (lv_at hl 1 rfl) ?_
  refine lv_iload_n hx hb dX0_known_4 rfl (lv_at hl 2 rfl) ?_
  refine gx_callVF hF hG hGs hl hx0 (C := RX1) (T := TX1) (N := 7) rfl hM (cwV 2 hF.1.2.2.2.2 (lw_V q1509 q1510 q1511 q82 q1512) rfl rfl rfl (by decide +kernel) ⟨by rw [hF.2.2.2.2]; exact Nat.le_refl _, by rw [hF.2.2.2.2]; show 8 + (4 + 11) + lo ≤ lo + 60; omega⟩) (As := [.int p0, .int p1]) rfl rfl (Nat.le_of_ble_eq_true rfl) dX0_known_5 ⟨by rw [hF.2.2.2.2]; show 0 + mc ≤ mc; omega, by rw [hF.2.2.2.2]; show 0 + ms ≤ ms; omega⟩ (fun E q ce G1 n1 H locs hR hO hG h1 h2 h3 => ?_) (fun v1 G1 n1 H locs hR hO hG => ?_)
  · obtain ⟨k, hk, rfl, b', d', hXW⟩ := hR
    rcases hex k hk with hk2 | hk2
    · subst hk2
      refine g_catch1 hF htab rfl (by decide) q1006 q1037 h1 h2 h3 ?_
      refine lv_astore hx hb dX0_known_13 hl (Nat.le_of_ble_eq_true rfl) (lv' := (4, .ref q) :: [(0, .ref x), (1, .int p0), (2, .int p1), (3, .ref oa)]) rfl (fun ls hl => ?_)
      refine lv_iconst (v := 1) hx hb dX0_known_15 (by decide) ?_
      exact hret _ _ _ _ _ (g_iret hQ' hG ⟨G1, b', d', fl, hXW, by rw [hk]; rfl, (fun k q => by rw [hk] at q; cases q), hO.toW hoL hon ho⟩ (by omega) (by omega) dX0_known_16)
    · subst hk2
      refine g_catch2 hF htab (by decide) q1006 (by decide) rfl (by decide) q1053 q156 h1 h2 h3 ?_
      refine lv_astore hx hb dX0_known_17 hl (Nat.le_of_ble_eq_true rfl) (lv' := (4, .ref q) :: [(0, .ref x), (1, .int p0), (2, .int p1), (3, .ref oa)]) rfl (fun ls hl => ?_)
      refine lv_iconst (v := 2) hx hb dX0_known_19 (by decide) ?_
      exact hret _ _ _ _ _ (g_iret hQ' hG ⟨G1, b', d', fl, hXW, by rw [hk]; rfl, (fun k q => by rw [hk] at q; cases q), hO.toW hoL hon ho⟩ (by omega) (by omega) dX0_known_20)
  · obtain ⟨k, hk, rfl, b', d', hXW⟩ := hR
    refine lv_i2l hx hb dX0_known_8 rfl ?_
    refine g_last hF hG (hO.toW (dA := g.2.1) hoL hon ho).2.2.1 hoL 3 rfl (show vp_in 0 1 from nI_in (c := 0) (by decide) (by decide)) dX0_known_9 (fun H locs hG => ?_)
    refine lv_goto hx hb dX0_known_10 (tgt := 21) (by decide) ?_
    refine lv_iconst (v := 0) hx hb dX0_known_21 (by decide) ?_
    exact hret _ _ _ _ _ (g_iret hQ' hG ⟨G1, b', d', _, hXW, by rw [hk]; rfl, (fun j q => by rw [hk] at q; cases q; rfl), hO.set hoL hon (hlt0)⟩ (by omega) (by omega) dX0_known_22)
/-! learned -/
set_option maxRecDepth 100000 in
theorem w_X0_learned {l : Launch} {x sz fr lo mc ms : Nat} {fx : List Value} {p0 : Int32} {r : XR} (hM : gMetX l yX1_learned (ws_ yX1_learned cX1_learned 2 (some .int)) g.1 clX L0 (gK g) [.ref x, .int p0] Gs sz fr lo mc ms (XRR g.2.1 L0 x r) (XRT g.2.1 L0 x r)) (hGs : gx Gs G) (hx0 : Gs x = some (.inr (0, fx))) {oa : Nat} {fl : Nat → Int64} (ho : G oa = some (.inl (g.2.1 3, 1, .inr (.inl fl)))) (hoL : L0 ≤ oa) (hon : Gs oa = none) (hex : ∀ k, r.1 = .inl k → k = 3) : gMetX l yX0_learned (wsW_ yX0_learned cX0_learned 4 (some .int) [(0, 9, 12, 19)]) g.1 clX L0 (gK g) [.ref x, .int p0, .ref oa] G sz (fr + 1) (lo + 60) mc ms (fun v G' n => ∃ Gs' b' d' fl', XW g.2.1 L0 x r.2 b' d' Gs' ∧ v = some (.int (xk 3 r.1)) ∧ (∀ k, r.1 = .inr k → fl' 0 = k.toInt64) ∧ OW g.2.1 L0 sz Gs G oa fl' Gs' G') (fun _ _ _ => False) := by
  refine gMetX.ofH (own := RX0) (gK_ok g) (by decide +kernel) (Nat.le_of_ble_eq_true rfl) rfl ?_
  intro p e R s m args below meth c A Q ls H hF hQ htab hG hl
  have hx := hF.1.1
  have hb := hF.1.2.1
  have hts := hF.1.2.2.2.2
  obtain ⟨Q', hQ', hret⟩ := gx_ret hQ
  have hlt0 : oa < sz := hG.lt ho
  have hl : lv_has ls 4 [(0, .ref x), (1, .int p0), (2, .ref oa)] := hl
  refine lv_aload_n hx hb dX0_learned_0 rfl (lv_at hl 2 rfl) ?_
  refine lv_iconst (v := 0) hx hb dX0_learned_1 (by decide) ?_
  refine lv_aload_n hx hb dX0_learned_2 rfl (lv_at hl 0 rfl) ?_
  refine lv_iload_n hx hb dX0_learned_3 rfl (lv_at hl 1 rfl) ?_
  refine gx_callVF hF hG hGs hl hx0 (C := RX1) (T := TX1) (N := 7) rfl hM (cwV 1 hF.1.2.2.2.2 (lw_V q1570 q1571 q1572 q82 q1573) rfl rfl rfl (by decide +kernel) ⟨by rw [hF.2.2.2.2]; exact Nat.le_refl _, by rw [hF.2.2.2.2]; show 8 + (2 + 11) + lo ≤ lo + 60; omega⟩) (As := [.int p0]) rfl rfl (Nat.le_of_ble_eq_true rfl) dX0_learned_4 ⟨by rw [hF.2.2.2.2]; show 0 + mc ≤ mc; omega, by rw [hF.2.2.2.2]; show 0 + ms ≤ ms; omega⟩ (fun E q ce G1 n1 H locs hR hO hG h1 h2 h3 => ?_) (fun v1 G1 n1 H locs hR hO hG => ?_)
  · obtain ⟨k, hk, rfl, b', d', hXW⟩ := hR
    have hk2 := hex k hk
    subst hk2
    refine g_catch1 hF htab rfl (by decide) q1006 q1037 h1 h2 h3 ?_
    refine lv_astore_n hx hb dX0_learned_12 rfl hl (Nat.le_of_ble_eq_true rfl) (lv' := (3, .ref q) :: [(0, .ref x), (1, .int p0), (2, .ref oa)]) rfl (fun ls hl => ?_)
    refine lv_iconst (v := 1) hx hb dX0_learned_13 (by decide) ?_
    exact hret _ _ _ _ _ (g_iret hQ' hG ⟨G1, b', d', fl, hXW, by rw [hk]; rfl, (fun k q => by rw [hk] at q; cases q), hO.toW hoL hon ho⟩ (by omega) (by omega) dX0_learned_14)
  · obtain ⟨k, hk, rfl, b', d', hXW⟩ := hR
    refine lv_i2l hx hb dX0_learned_7 rfl ?_
    refine g_last hF hG (hO.toW (dA := g.2.1) hoL hon ho).2.2.1 hoL 3 rfl (show vp_in 0 1 from nI_in (c := 0) (by decide) (by decide)) dX0_learned_8 (fun H locs hG => ?_)
    refine lv_goto hx hb dX0_learned_9 (tgt := 15) (by decide) ?_
    refine lv_iconst (v := 0) hx hb dX0_learned_15 (by decide) ?_
    exact hret _ _ _ _ _ (g_iret hQ' hG ⟨G1, b', d', _, hXW, by rw [hk]; rfl, (fun j q => by rw [hk] at q; cases q; rfl), hO.set hoL hon (hlt0)⟩ (by omega) (by omega) dX0_learned_16)
/-! load_2 -/
set_option maxRecDepth 100000 in
theorem w_X0_load_2 {l : Launch} {x sz fr lo mc ms : Nat} {fx : List Value} {p0 : Int32} {r : XR} (hM : gMetX l yX1_load_2 (ws_ yX1_load_2 cX1_load_2 2 (some .int)) g.1 clX L0 (gK g) [.ref x, .int p0] Gs sz fr lo mc ms (XRR g.2.1 L0 x r) (XRT g.2.1 L0 x r)) (hGs : gx Gs G) (hx0 : Gs x = some (.inr (0, fx))) {oa : Nat} {fl : Nat → Int64} (ho : G oa = some (.inl (g.2.1 3, 1, .inr (.inl fl)))) (hoL : L0 ≤ oa) (hon : Gs oa = none) (hex : ∀ k, r.1 = .inl k → k = 1) : gMetX l yX0_load_2 (wsW_ yX0_load_2 cX0_load_2 4 (some .int) [(0, 9, 12, 25)]) g.1 clX L0 (gK g) [.ref x, .int p0, .ref oa] G sz (fr + 1) (lo + 60) mc ms (fun v G' n => ∃ Gs' b' d' fl', XW g.2.1 L0 x r.2 b' d' Gs' ∧ v = some (.int (xk 1 r.1)) ∧ (∀ k, r.1 = .inr k → fl' 0 = k.toInt64) ∧ OW g.2.1 L0 sz Gs G oa fl' Gs' G') (fun _ _ _ => False) := by
  refine gMetX.ofH (own := RX0) (gK_ok g) (by decide +kernel) (Nat.le_of_ble_eq_true rfl) rfl ?_
  intro p e R s m args below meth c A Q ls H hF hQ htab hG hl
  have hx := hF.1.1
  have hb := hF.1.2.1
  have hts := hF.1.2.2.2.2
  obtain ⟨Q', hQ', hret⟩ := gx_ret hQ
  have hlt0 : oa < sz := hG.lt ho
  have hl : lv_has ls 4 [(0, .ref x), (1, .int p0), (2, .ref oa)] := hl
  refine lv_aload_n hx hb dX0_load_2_0 rfl (lv_at hl 2 rfl) ?_
  refine lv_iconst (v := 0) hx hb dX0_load_2_1 (by decide) ?_
  refine lv_aload_n hx hb dX0_load_2_2 rfl (lv_at hl 0 rfl) ?_
  refine lv_iload_n hx hb dX0_load_2_3 rfl (lv_at hl 1 rfl) ?_
  refine gx_callVF hF hG hGs hl hx0 (C := RX1) (T := TX1) (N := 7) rfl hM (cwV 1 hF.1.2.2.2.2 (lw_V q1539 q1540 q1541 q82 q1542) rfl rfl rfl (by decide +kernel) ⟨by rw [hF.2.2.2.2]; exact Nat.le_refl _, by rw [hF.2.2.2.2]; show 8 + (2 + 11) + lo ≤ lo + 60; omega⟩) (As := [.int p0]) rfl rfl (Nat.le_of_ble_eq_true rfl) dX0_load_2_4 ⟨by rw [hF.2.2.2.2]; show 0 + mc ≤ mc; omega, by rw [hF.2.2.2.2]; show 0 + ms ≤ ms; omega⟩ (fun E q ce G1 n1 H locs hR hO hG h1 h2 h3 => ?_) (fun v1 G1 n1 H locs hR hO hG => ?_)
  · obtain ⟨k, hk, rfl, b', d', hXW⟩ := hR
    have hk2 := hex k hk
    subst hk2
    refine g_catch1 hF htab rfl (by decide) q1053 q156 h1 h2 h3 ?_
    refine lv_astore_n hx hb dX0_load_2_12 rfl hl (Nat.le_of_ble_eq_true rfl) (lv' := (3, .ref q) :: [(0, .ref x), (1, .int p0), (2, .ref oa)]) rfl (fun ls hl => ?_)
    refine lv_iconst (v := 1) hx hb dX0_load_2_13 (by decide) ?_
    exact hret _ _ _ _ _ (g_iret hQ' hG ⟨G1, b', d', fl, hXW, by rw [hk]; rfl, (fun k q => by rw [hk] at q; cases q), hO.toW hoL hon ho⟩ (by omega) (by omega) dX0_load_2_14)
  · obtain ⟨k, hk, rfl, b', d', hXW⟩ := hR
    refine lv_i2l hx hb dX0_load_2_7 rfl ?_
    refine g_last hF hG (hO.toW (dA := g.2.1) hoL hon ho).2.2.1 hoL 3 rfl (show vp_in 0 1 from nI_in (c := 0) (by decide) (by decide)) dX0_load_2_8 (fun H locs hG => ?_)
    refine lv_goto hx hb dX0_load_2_9 (tgt := 15) (by decide) ?_
    refine lv_iconst (v := 0) hx hb dX0_load_2_15 (by decide) ?_
    exact hret _ _ _ _ _ (g_iret hQ' hG ⟨G1, b', d', _, hXW, by rw [hk]; rfl, (fun j q => by rw [hk] at q; cases q; rfl), hO.set hoL hon (hlt0)⟩ (by omega) (by omega) dX0_load_2_16)
/-! message -/
set_option maxRecDepth 100000 in
theorem w_X0_message {l : Launch} {x sz fr lo mc ms : Nat} {fx : List Value} {p0 : Int32} {p1 : Int32} {r : XR} (hM : gMetX l yX1_message (ws_ yX1_message cX1_message 4 (some .int)) g.1 clX L0 (gK g) [.ref x, .int p0, .int p1] Gs sz fr lo mc ms (XRR g.2.1 L0 x r) (XRT g.2.1 L0 x r)) (hGs : gx Gs G) (hx0 : Gs x = some (.inr (0, fx))) {oa : Nat} {fl : Nat → Int64} (ho : G oa = some (.inl (g.2.1 3, 1, .inr (.inl fl)))) (hoL : L0 ≤ oa) (hon : Gs oa = none) (hex : ∀ k, r.1 = .inl k → k = 3 ∨ k = 1) : gMetX l yX0_message (wsW_ yX0_message cX0_message 5 (some .int) [(0, 10, 13, 19), (0, 10, 17, 25)]) g.1 clX L0 (gK g) [.ref x, .int p0, .int p1, .ref oa] G sz (fr + 1) (lo + 60) mc ms (fun v G' n => ∃ Gs' b' d' fl', XW g.2.1 L0 x r.2 b' d' Gs' ∧ v = some (.int (xk 3 r.1)) ∧ (∀ k, r.1 = .inr k → fl' 0 = k.toInt64) ∧ OW g.2.1 L0 sz Gs G oa fl' Gs' G') (fun _ _ _ => False) := by
  refine gMetX.ofH (own := RX0) (gK_ok g) (by decide +kernel) (Nat.le_of_ble_eq_true rfl) rfl ?_
  intro p e R s m args below meth c A Q ls H hF hQ htab hG hl
  have hx := hF.1.1
  have hb := hF.1.2.1
  have hts := hF.1.2.2.2.2
  obtain ⟨Q', hQ', hret⟩ := gx_ret hQ
  have hlt0 : oa < sz := hG.lt ho
  have hl : lv_has ls 5 [(0, .ref x), (1, .int p0), (2, .int p1), (3, .ref oa)] := hl
  refine lv_aload_n hx hb dX0_message_0 rfl (lv_at hl 3 rfl) ?_
  refine lv_iconst (v := 0) hx hb dX0_message_1 (by decide) ?_
  refine lv_aload_n hx hb dX0_message_2 rfl (lv_at hl 0 rfl) ?_
  refine lv_iload_n hx hb dX0_message_3 rfl (lv_at hl 1 rfl) ?_
  refine lv_iload_n hx hb dX0_message_4 rfl (lv_at hl 2 rfl) ?_
  refine gx_callVF hF hG hGs hl hx0 (C := RX1) (T := TX1) (N := 7) rfl hM (cwV 2 hF.1.2.2.2.2 (lw_V q1555 q1556 q1557 q82 q1558) rfl rfl rfl (by decide +kernel) ⟨by rw [hF.2.2.2.2]; exact Nat.le_refl _, by rw [hF.2.2.2.2]; show 8 + (4 + 11) + lo ≤ lo + 60; omega⟩) (As := [.int p0, .int p1]) rfl rfl (Nat.le_of_ble_eq_true rfl) dX0_message_5 ⟨by rw [hF.2.2.2.2]; show 0 + mc ≤ mc; omega, by rw [hF.2.2.2.2]; show 0 + ms ≤ ms; omega⟩ (fun E q ce G1 n1 H locs hR hO hG h1 h2 h3 => ?_) (fun v1 G1 n1 H locs hR hO hG => ?_)
  · obtain ⟨k, hk, rfl, b', d', hXW⟩ := hR
    rcases hex k hk with hk2 | hk2
    · subst hk2
      refine g_catch1 hF htab rfl (by decide) q1006 q1037 h1 h2 h3 ?_
      refine lv_astore hx hb dX0_message_13 hl (Nat.le_of_ble_eq_true rfl) (lv' := (4, .ref q) :: [(0, .ref x), (1, .int p0), (2, .int p1), (3, .ref oa)]) rfl (fun ls hl => ?_)
      refine lv_iconst (v := 1) hx hb dX0_message_15 (by decide) ?_
      exact hret _ _ _ _ _ (g_iret hQ' hG ⟨G1, b', d', fl, hXW, by rw [hk]; rfl, (fun k q => by rw [hk] at q; cases q), hO.toW hoL hon ho⟩ (by omega) (by omega) dX0_message_16)
    · subst hk2
      refine g_catch2 hF htab (by decide) q1006 (by decide) rfl (by decide) q1053 q156 h1 h2 h3 ?_
      refine lv_astore hx hb dX0_message_17 hl (Nat.le_of_ble_eq_true rfl) (lv' := (4, .ref q) :: [(0, .ref x), (1, .int p0), (2, .int p1), (3, .ref oa)]) rfl (fun ls hl => ?_)
      refine lv_iconst (v := 2) hx hb dX0_message_19 (by decide) ?_
      exact hret _ _ _ _ _ (g_iret hQ' hG ⟨G1, b', d', fl, hXW, by rw [hk]; rfl, (fun k q => by rw [hk] at q; cases q), hO.toW hoL hon ho⟩ (by omega) (by omega) dX0_message_20)
  · obtain ⟨k, hk, rfl, b', d', hXW⟩ := hR
    refine lv_i2l hx hb dX0_message_8 rfl ?_
    refine g_last hF hG (hO.toW (dA := g.2.1) hoL hon ho).2.2.1 hoL 3 rfl (show vp_in 0 1 from nI_in (c := 0) (by decide) (by decide)) dX0_message_9 (fun H locs hG => ?_)
    refine lv_goto hx hb dX0_message_10 (tgt := 21) (by decide) ?_
    refine lv_iconst (v := 0) hx hb dX0_message_21 (by decide) ?_
    exact hret _ _ _ _ _ (g_iret hQ' hG ⟨G1, b', d', _, hXW, by rw [hk]; rfl, (fun j q => by rw [hk] at q; cases q; rfl), hO.set hoL hon (hlt0)⟩ (by omega) (by omega) dX0_message_22)
/-! needs -/
set_option maxRecDepth 100000 in
theorem w_X0_needs {l : Launch} {x sz fr lo mc ms : Nat} {fx : List Value} {p0 : Int32} {p1 : Int32} {r : XR} (hM : gMetX l yX1_needs (ws_ yX1_needs cX1_needs 6 (some .int)) g.1 clX L0 (gK g) [.ref x, .int p0, .int p1] Gs sz fr lo mc ms (XRR g.2.1 L0 x r) (XRT g.2.1 L0 x r)) (hGs : gx Gs G) (hx0 : Gs x = some (.inr (0, fx))) {oa : Nat} {fl : Nat → Int64} (ho : G oa = some (.inl (g.2.1 3, 1, .inr (.inl fl)))) (hoL : L0 ≤ oa) (hon : Gs oa = none) (hex : ∀ k, r.1 = .inl k → k = 3) : gMetX l yX0_needs (wsW_ yX0_needs cX0_needs 5 (some .int) [(0, 10, 13, 19)]) g.1 clX L0 (gK g) [.ref x, .int p0, .int p1, .ref oa] G sz (fr + 1) (lo + 60) mc ms (fun v G' n => ∃ Gs' b' d' fl', XW g.2.1 L0 x r.2 b' d' Gs' ∧ v = some (.int (xk 3 r.1)) ∧ (∀ k, r.1 = .inr k → fl' 0 = k.toInt64) ∧ OW g.2.1 L0 sz Gs G oa fl' Gs' G') (fun _ _ _ => False) := by
  refine gMetX.ofH (own := RX0) (gK_ok g) (by decide +kernel) (Nat.le_of_ble_eq_true rfl) rfl ?_
  intro p e R s m args below meth c A Q ls H hF hQ htab hG hl
  have hx := hF.1.1
  have hb := hF.1.2.1
  have hts := hF.1.2.2.2.2
  obtain ⟨Q', hQ', hret⟩ := gx_ret hQ
  have hlt0 : oa < sz := hG.lt ho
  have hl : lv_has ls 5 [(0, .ref x), (1, .int p0), (2, .int p1), (3, .ref oa)] := hl
  refine lv_aload_n hx hb dX0_needs_0 rfl (lv_at hl 3 rfl) ?_
  refine lv_iconst (v := 0) hx hb dX0_needs_1 (by decide) ?_
  refine lv_aload_n hx hb dX0_needs_2 rfl (lv_at hl 0 rfl) ?_
  refine lv_iload_n hx hb dX0_needs_3 rfl (lv_at hl 1 rfl) ?_
  refine lv_iload_n hx hb dX0_needs_4 rfl (lv_at hl 2 rfl) ?_
  refine gx_callVF hF hG hGs hl hx0 (C := RX1) (T := TX1) (N := 7) rfl hM (cwV 2 hF.1.2.2.2.2 (lw_V q1519 q1520 q1521 q82 q1522) rfl rfl rfl (by decide +kernel) ⟨by rw [hF.2.2.2.2]; exact Nat.le_refl _, by rw [hF.2.2.2.2]; show 8 + (6 + 11) + lo ≤ lo + 60; omega⟩) (As := [.int p0, .int p1]) rfl rfl (Nat.le_of_ble_eq_true rfl) dX0_needs_5 ⟨by rw [hF.2.2.2.2]; show 0 + mc ≤ mc; omega, by rw [hF.2.2.2.2]; show 0 + ms ≤ ms; omega⟩ (fun E q ce G1 n1 H locs hR hO hG h1 h2 h3 => ?_) (fun v1 G1 n1 H locs hR hO hG => ?_)
  · obtain ⟨k, hk, rfl, b', d', hXW⟩ := hR
    have hk2 := hex k hk
    subst hk2
    refine g_catch1 hF htab rfl (by decide) q1006 q1037 h1 h2 h3 ?_
    refine lv_astore hx hb dX0_needs_13 hl (Nat.le_of_ble_eq_true rfl) (lv' := (4, .ref q) :: [(0, .ref x), (1, .int p0), (2, .int p1), (3, .ref oa)]) rfl (fun ls hl => ?_)
    refine lv_iconst (v := 1) hx hb dX0_needs_15 (by decide) ?_
    exact hret _ _ _ _ _ (g_iret hQ' hG ⟨G1, b', d', fl, hXW, by rw [hk]; rfl, (fun k q => by rw [hk] at q; cases q), hO.toW hoL hon ho⟩ (by omega) (by omega) dX0_needs_16)
  · obtain ⟨k, hk, rfl, b', d', hXW⟩ := hR
    refine lv_i2l hx hb dX0_needs_8 rfl ?_
    refine g_last hF hG (hO.toW (dA := g.2.1) hoL hon ho).2.2.1 hoL 3 rfl (show vp_in 0 1 from nI_in (c := 0) (by decide) (by decide)) dX0_needs_9 (fun H locs hG => ?_)
    refine lv_goto hx hb dX0_needs_10 (tgt := 17) (by decide) ?_
    refine lv_iconst (v := 0) hx hb dX0_needs_17 (by decide) ?_
    exact hret _ _ _ _ _ (g_iret hQ' hG ⟨G1, b', d', _, hXW, by rw [hk]; rfl, (fun j q => by rw [hk] at q; cases q; rfl), hO.set hoL hon (hlt0)⟩ (by omega) (by omega) dX0_needs_18)
/-! outlet -/
set_option maxRecDepth 100000 in
theorem w_X0_outlet {l : Launch} {x sz fr lo mc ms : Nat} {fx : List Value} {p0 : Int32} {p1 : Int32} {r : XR} (hM : gMetX l yX1_outlet (ws_ yX1_outlet cX1_outlet 4 (some .int)) g.1 clX L0 (gK g) [.ref x, .int p0, .int p1] Gs sz fr lo mc ms (XRR g.2.1 L0 x r) (XRT g.2.1 L0 x r)) (hGs : gx Gs G) (hx0 : Gs x = some (.inr (0, fx))) {oa : Nat} {fl : Nat → Int64} (ho : G oa = some (.inl (g.2.1 3, 1, .inr (.inl fl)))) (hoL : L0 ≤ oa) (hon : Gs oa = none) (hex : ∀ k, r.1 = .inl k → k = 3 ∨ k = 1) : gMetX l yX0_outlet (wsW_ yX0_outlet cX0_outlet 5 (some .int) [(0, 10, 13, 19), (0, 10, 17, 25)]) g.1 clX L0 (gK g) [.ref x, .int p0, .int p1, .ref oa] G sz (fr + 1) (lo + 60) mc ms (fun v G' n => ∃ Gs' b' d' fl', XW g.2.1 L0 x r.2 b' d' Gs' ∧ v = some (.int (xk 3 r.1)) ∧ (∀ k, r.1 = .inr k → fl' 0 = k.toInt64) ∧ OW g.2.1 L0 sz Gs G oa fl' Gs' G') (fun _ _ _ => False) := by
  refine gMetX.ofH (own := RX0) (gK_ok g) (by decide +kernel) (Nat.le_of_ble_eq_true rfl) rfl ?_
  intro p e R s m args below meth c A Q ls H hF hQ htab hG hl
  have hx := hF.1.1
  have hb := hF.1.2.1
  have hts := hF.1.2.2.2.2
  obtain ⟨Q', hQ', hret⟩ := gx_ret hQ
  have hlt0 : oa < sz := hG.lt ho
  have hl : lv_has ls 5 [(0, .ref x), (1, .int p0), (2, .int p1), (3, .ref oa)] := hl
  refine lv_aload_n hx hb dX0_outlet_0 rfl (lv_at hl 3 rfl) ?_
  refine lv_iconst (v := 0) hx hb dX0_outlet_1 (by decide) ?_
  refine lv_aload_n hx hb dX0_outlet_2 rfl (lv_at hl 0 rfl) ?_
  refine lv_iload_n hx hb dX0_outlet_3 rfl (lv_at hl 1 rfl) ?_
  refine lv_iload_n hx hb dX0_outlet_4 rfl (lv_at hl 2 rfl) ?_
  refine gx_callVF hF hG hGs hl hx0 (C := RX1) (T := TX1) (N := 7) rfl hM (cwV 2 hF.1.2.2.2.2 (lw_V q1496 q1497 q1498 q82 q1499) rfl rfl rfl (by decide +kernel) ⟨by rw [hF.2.2.2.2]; exact Nat.le_refl _, by rw [hF.2.2.2.2]; show 8 + (4 + 11) + lo ≤ lo + 60; omega⟩) (As := [.int p0, .int p1]) rfl rfl (Nat.le_of_ble_eq_true rfl) dX0_outlet_5 ⟨by rw [hF.2.2.2.2]; show 0 + mc ≤ mc; omega, by rw [hF.2.2.2.2]; show 0 + ms ≤ ms; omega⟩ (fun E q ce G1 n1 H locs hR hO hG h1 h2 h3 => ?_) (fun v1 G1 n1 H locs hR hO hG => ?_)
  · obtain ⟨k, hk, rfl, b', d', hXW⟩ := hR
    rcases hex k hk with hk2 | hk2
    · subst hk2
      refine g_catch1 hF htab rfl (by decide) q1006 q1037 h1 h2 h3 ?_
      refine lv_astore hx hb dX0_outlet_13 hl (Nat.le_of_ble_eq_true rfl) (lv' := (4, .ref q) :: [(0, .ref x), (1, .int p0), (2, .int p1), (3, .ref oa)]) rfl (fun ls hl => ?_)
      refine lv_iconst (v := 1) hx hb dX0_outlet_15 (by decide) ?_
      exact hret _ _ _ _ _ (g_iret hQ' hG ⟨G1, b', d', fl, hXW, by rw [hk]; rfl, (fun k q => by rw [hk] at q; cases q), hO.toW hoL hon ho⟩ (by omega) (by omega) dX0_outlet_16)
    · subst hk2
      refine g_catch2 hF htab (by decide) q1006 (by decide) rfl (by decide) q1053 q156 h1 h2 h3 ?_
      refine lv_astore hx hb dX0_outlet_17 hl (Nat.le_of_ble_eq_true rfl) (lv' := (4, .ref q) :: [(0, .ref x), (1, .int p0), (2, .int p1), (3, .ref oa)]) rfl (fun ls hl => ?_)
      refine lv_iconst (v := 2) hx hb dX0_outlet_19 (by decide) ?_
      exact hret _ _ _ _ _ (g_iret hQ' hG ⟨G1, b', d', fl, hXW, by rw [hk]; rfl, (fun k q => by rw [hk] at q; cases q), hO.toW hoL hon ho⟩ (by omega) (by omega) dX0_outlet_20)
  · obtain ⟨k, hk, rfl, b', d', hXW⟩ := hR
    refine lv_i2l hx hb dX0_outlet_8 rfl ?_
    refine g_last hF hG (hO.toW (dA := g.2.1) hoL hon ho).2.2.1 hoL 3 rfl (show vp_in 0 1 from nI_in (c := 0) (by decide) (by decide)) dX0_outlet_9 (fun H locs hG => ?_)
    refine lv_goto hx hb dX0_outlet_10 (tgt := 21) (by decide) ?_
    refine lv_iconst (v := 0) hx hb dX0_outlet_21 (by decide) ?_
    exact hret _ _ _ _ _ (g_iret hQ' hG ⟨G1, b', d', _, hXW, by rw [hk]; rfl, (fun j q => by rw [hk] at q; cases q; rfl), hO.set hoL hon (hlt0)⟩ (by omega) (by omega) dX0_outlet_22)
/-! outletsWith -/
set_option maxRecDepth 100000 in
theorem w_X0_outletsWith {l : Launch} {x sz fr lo mc ms : Nat} {fx : List Value} {p0 : Int32} {p1 : Int32} {r : XR} (hM : gMetX l yX1_outletsWith (ws_ yX1_outletsWith cX1_outletsWith 3 (some .int)) g.1 clX L0 (gK g) [.ref x, .int p0, .int p1] Gs sz fr lo mc ms (XRR g.2.1 L0 x r) (XRT g.2.1 L0 x r)) (hGs : gx Gs G) (hx0 : Gs x = some (.inr (0, fx))) {oa : Nat} {fl : Nat → Int64} (ho : G oa = some (.inl (g.2.1 3, 1, .inr (.inl fl)))) (hoL : L0 ≤ oa) (hon : Gs oa = none) (hex : ∀ k, r.1 = .inl k → k = 1) : gMetX l yX0_outletsWith (wsW_ yX0_outletsWith cX0_outletsWith 5 (some .int) [(0, 10, 13, 25)]) g.1 clX L0 (gK g) [.ref x, .int p0, .int p1, .ref oa] G sz (fr + 1) (lo + 60) mc ms (fun v G' n => ∃ Gs' b' d' fl', XW g.2.1 L0 x r.2 b' d' Gs' ∧ v = some (.int (xk 1 r.1)) ∧ (∀ k, r.1 = .inr k → fl' 0 = k.toInt64) ∧ OW g.2.1 L0 sz Gs G oa fl' Gs' G') (fun _ _ _ => False) := by
  refine gMetX.ofH (own := RX0) (gK_ok g) (by decide +kernel) (Nat.le_of_ble_eq_true rfl) rfl ?_
  intro p e R s m args below meth c A Q ls H hF hQ htab hG hl
  have hx := hF.1.1
  have hb := hF.1.2.1
  have hts := hF.1.2.2.2.2
  obtain ⟨Q', hQ', hret⟩ := gx_ret hQ
  have hlt0 : oa < sz := hG.lt ho
  have hl : lv_has ls 5 [(0, .ref x), (1, .int p0), (2, .int p1), (3, .ref oa)] := hl
  refine lv_aload_n hx hb dX0_outletsWith_0 rfl (lv_at hl 3 rfl) ?_
  refine lv_iconst (v := 0) hx hb dX0_outletsWith_1 (by decide) ?_
  refine lv_aload_n hx hb dX0_outletsWith_2 rfl (lv_at hl 0 rfl) ?_
  refine lv_iload_n hx hb dX0_outletsWith_3 rfl (lv_at hl 1 rfl) ?_
  refine lv_iload_n hx hb dX0_outletsWith_4 rfl (lv_at hl 2 rfl) ?_
  refine gx_callVF hF hG hGs hl hx0 (C := RX1) (T := TX1) (N := 7) rfl hM (cwV 2 hF.1.2.2.2.2 (lw_V q1526 q1527 q1528 q82 q1529) rfl rfl rfl (by decide +kernel) ⟨by rw [hF.2.2.2.2]; exact Nat.le_refl _, by rw [hF.2.2.2.2]; show 8 + (3 + 11) + lo ≤ lo + 60; omega⟩) (As := [.int p0, .int p1]) rfl rfl (Nat.le_of_ble_eq_true rfl) dX0_outletsWith_5 ⟨by rw [hF.2.2.2.2]; show 0 + mc ≤ mc; omega, by rw [hF.2.2.2.2]; show 0 + ms ≤ ms; omega⟩ (fun E q ce G1 n1 H locs hR hO hG h1 h2 h3 => ?_) (fun v1 G1 n1 H locs hR hO hG => ?_)
  · obtain ⟨k, hk, rfl, b', d', hXW⟩ := hR
    have hk2 := hex k hk
    subst hk2
    refine g_catch1 hF htab rfl (by decide) q1053 q156 h1 h2 h3 ?_
    refine lv_astore hx hb dX0_outletsWith_13 hl (Nat.le_of_ble_eq_true rfl) (lv' := (4, .ref q) :: [(0, .ref x), (1, .int p0), (2, .int p1), (3, .ref oa)]) rfl (fun ls hl => ?_)
    refine lv_iconst (v := 1) hx hb dX0_outletsWith_15 (by decide) ?_
    exact hret _ _ _ _ _ (g_iret hQ' hG ⟨G1, b', d', fl, hXW, by rw [hk]; rfl, (fun k q => by rw [hk] at q; cases q), hO.toW hoL hon ho⟩ (by omega) (by omega) dX0_outletsWith_16)
  · obtain ⟨k, hk, rfl, b', d', hXW⟩ := hR
    refine lv_i2l hx hb dX0_outletsWith_8 rfl ?_
    refine g_last hF hG (hO.toW (dA := g.2.1) hoL hon ho).2.2.1 hoL 3 rfl (show vp_in 0 1 from nI_in (c := 0) (by decide) (by decide)) dX0_outletsWith_9 (fun H locs hG => ?_)
    refine lv_goto hx hb dX0_outletsWith_10 (tgt := 17) (by decide) ?_
    refine lv_iconst (v := 0) hx hb dX0_outletsWith_17 (by decide) ?_
    exact hret _ _ _ _ _ (g_iret hQ' hG ⟨G1, b', d', _, hXW, by rw [hk]; rfl, (fun j q => by rw [hk] at q; cases q; rfl), hO.set hoL hon (hlt0)⟩ (by omega) (by omega) dX0_outletsWith_18)
/-! peakIn -/
set_option maxRecDepth 100000 in
theorem w_X0_peakIn {l : Launch} {x sz fr lo mc ms : Nat} {fx : List Value} {p0 : Int32} {p1 : Int32} {r : XR} (hM : gMetX l yX1_peakIn (ws_ yX1_peakIn cX1_peakIn 6 (some .int)) g.1 clX L0 (gK g) [.ref x, .int p0, .int p1] Gs sz fr lo mc ms (XRR g.2.1 L0 x r) (XRT g.2.1 L0 x r)) (hGs : gx Gs G) (hx0 : Gs x = some (.inr (0, fx))) {oa : Nat} {fl : Nat → Int64} (ho : G oa = some (.inl (g.2.1 3, 1, .inr (.inl fl)))) (hoL : L0 ≤ oa) (hon : Gs oa = none) (hex : ∀ k, r.1 = .inl k → k = 1) : gMetX l yX0_peakIn (wsW_ yX0_peakIn cX0_peakIn 5 (some .int) [(0, 10, 13, 25)]) g.1 clX L0 (gK g) [.ref x, .int p0, .int p1, .ref oa] G sz (fr + 1) (lo + 60) mc ms (fun v G' n => ∃ Gs' b' d' fl', XW g.2.1 L0 x r.2 b' d' Gs' ∧ v = some (.int (xk 1 r.1)) ∧ (∀ k, r.1 = .inr k → fl' 0 = k.toInt64) ∧ OW g.2.1 L0 sz Gs G oa fl' Gs' G') (fun _ _ _ => False) := by
  refine gMetX.ofH (own := RX0) (gK_ok g) (by decide +kernel) (Nat.le_of_ble_eq_true rfl) rfl ?_
  intro p e R s m args below meth c A Q ls H hF hQ htab hG hl
  have hx := hF.1.1
  have hb := hF.1.2.1
  have hts := hF.1.2.2.2.2
  obtain ⟨Q', hQ', hret⟩ := gx_ret hQ
  have hlt0 : oa < sz := hG.lt ho
  have hl : lv_has ls 5 [(0, .ref x), (1, .int p0), (2, .int p1), (3, .ref oa)] := hl
  refine lv_aload_n hx hb dX0_peakIn_0 rfl (lv_at hl 3 rfl) ?_
  refine lv_iconst (v := 0) hx hb dX0_peakIn_1 (by decide) ?_
  refine lv_aload_n hx hb dX0_peakIn_2 rfl (lv_at hl 0 rfl) ?_
  refine lv_iload_n hx hb dX0_peakIn_3 rfl (lv_at hl 1 rfl) ?_
  refine lv_iload_n hx hb dX0_peakIn_4 rfl (lv_at hl 2 rfl) ?_
  refine gx_callVF hF hG hGs hl hx0 (C := RX1) (T := TX1) (N := 7) rfl hM (cwV 2 hF.1.2.2.2.2 (lw_V q1718 q1719 q1720 q82 q1721) rfl rfl rfl (by decide +kernel) ⟨by rw [hF.2.2.2.2]; exact Nat.le_refl _, by rw [hF.2.2.2.2]; show 8 + (6 + 11) + lo ≤ lo + 60; omega⟩) (As := [.int p0, .int p1]) rfl rfl (Nat.le_of_ble_eq_true rfl) dX0_peakIn_5 ⟨by rw [hF.2.2.2.2]; show 0 + mc ≤ mc; omega, by rw [hF.2.2.2.2]; show 0 + ms ≤ ms; omega⟩ (fun E q ce G1 n1 H locs hR hO hG h1 h2 h3 => ?_) (fun v1 G1 n1 H locs hR hO hG => ?_)
  · obtain ⟨k, hk, rfl, b', d', hXW⟩ := hR
    have hk2 := hex k hk
    subst hk2
    refine g_catch1 hF htab rfl (by decide) q1053 q156 h1 h2 h3 ?_
    refine lv_astore hx hb dX0_peakIn_13 hl (Nat.le_of_ble_eq_true rfl) (lv' := (4, .ref q) :: [(0, .ref x), (1, .int p0), (2, .int p1), (3, .ref oa)]) rfl (fun ls hl => ?_)
    refine lv_iconst (v := 1) hx hb dX0_peakIn_15 (by decide) ?_
    exact hret _ _ _ _ _ (g_iret hQ' hG ⟨G1, b', d', fl, hXW, by rw [hk]; rfl, (fun k q => by rw [hk] at q; cases q), hO.toW hoL hon ho⟩ (by omega) (by omega) dX0_peakIn_16)
  · obtain ⟨k, hk, rfl, b', d', hXW⟩ := hR
    refine lv_i2l hx hb dX0_peakIn_8 rfl ?_
    refine g_last hF hG (hO.toW (dA := g.2.1) hoL hon ho).2.2.1 hoL 3 rfl (show vp_in 0 1 from nI_in (c := 0) (by decide) (by decide)) dX0_peakIn_9 (fun H locs hG => ?_)
    refine lv_goto hx hb dX0_peakIn_10 (tgt := 17) (by decide) ?_
    refine lv_iconst (v := 0) hx hb dX0_peakIn_17 (by decide) ?_
    exact hret _ _ _ _ _ (g_iret hQ' hG ⟨G1, b', d', _, hXW, by rw [hk]; rfl, (fun j q => by rw [hk] at q; cases q; rfl), hO.set hoL hon (hlt0)⟩ (by omega) (by omega) dX0_peakIn_18)
/-! restore -/
set_option maxRecDepth 100000 in
theorem w_X0_restore {l : Launch} {x sz fr lo mc ms : Nat} {fx : List Value} {p0 : Int32} {r : XR} (hM : gMetX l yX1_restore (ws_ yX1_restore cX1_restore 2 none) g.1 clX L0 (gK g) [.ref x, .int p0] Gs sz fr lo mc ms (XRV g.2.1 L0 x r) (XRT g.2.1 L0 x r)) (hGs : gx Gs G) (hx0 : Gs x = some (.inr (0, fx))) (hex : ∀ k, r.1 = .inl k → k = 3 ∨ k = 4) : gMetX l yX0_restore (wsW_ yX0_restore cX0_restore 3 (some .int) [(0, 5, 8, 19), (0, 5, 11, 30)]) g.1 clX L0 (gK g) [.ref x, .int p0] G sz (fr + 1) (lo + 60) mc ms (fun v G' n => ∃ Gs' b' d', XW g.2.1 L0 x r.2 b' d' Gs' ∧ v = some (.int (xk 3 r.1)) ∧ OV L0 sz Gs G Gs' G') (fun _ _ _ => False) := by
  refine gMetX.ofH (own := RX0) (gK_ok g) (by decide +kernel) (Nat.le_of_ble_eq_true rfl) rfl ?_
  intro p e R s m args below meth c A Q ls H hF hQ htab hG hl
  have hx := hF.1.1
  have hb := hF.1.2.1
  have hts := hF.1.2.2.2.2
  obtain ⟨Q', hQ', hret⟩ := gx_ret hQ
  have hl : lv_has ls 3 [(0, .ref x), (1, .int p0)] := hl
  refine lv_aload_n hx hb dX0_restore_0 rfl (lv_at hl 0 rfl) ?_
  refine lv_iload_n hx hb dX0_restore_1 rfl (lv_at hl 1 rfl) ?_
  refine gx_callVF hF hG hGs hl hx0 (C := RX1) (T := TX1) (N := 7) rfl hM (cwV 1 hF.1.2.2.2.2 (lw_V q1812 q1813 q1814 q82 q1815) rfl rfl rfl (by decide +kernel) ⟨by rw [hF.2.2.2.2]; exact Nat.le_refl _, by rw [hF.2.2.2.2]; show 8 + (2 + 11) + lo ≤ lo + 60; omega⟩) (As := [.int p0]) rfl rfl (Nat.le_of_ble_eq_true rfl) dX0_restore_2 ⟨by rw [hF.2.2.2.2]; show 0 + mc ≤ mc; omega, by rw [hF.2.2.2.2]; show 0 + ms ≤ ms; omega⟩ (fun E q ce G1 n1 H locs hR hO hG h1 h2 h3 => ?_) (fun v1 G1 n1 H locs hR hO hG => ?_)
  · obtain ⟨k, hk, rfl, b', d', hXW⟩ := hR
    rcases hex k hk with hk2 | hk2
    · subst hk2
      refine g_catch1 hF htab rfl (by decide) q1006 q1037 h1 h2 h3 ?_
      refine lv_astore_n hx hb dX0_restore_8 rfl hl (Nat.le_of_ble_eq_true rfl) (lv' := (2, .ref q) :: [(0, .ref x), (1, .int p0)]) rfl (fun ls hl => ?_)
      refine lv_iconst (v := 1) hx hb dX0_restore_9 (by decide) ?_
      exact hret _ _ _ _ _ (g_iret hQ' hG ⟨G1, b', d', hXW, by rw [hk]; rfl, hO⟩ (by omega) (by omega) dX0_restore_10)
    · subst hk2
      refine g_catch2 hF htab (by decide) q1006 (by decide) rfl (by decide) q1464 q868 h1 h2 h3 ?_
      refine lv_astore_n hx hb dX0_restore_11 rfl hl (Nat.le_of_ble_eq_true rfl) (lv' := (2, .ref q) :: [(0, .ref x), (1, .int p0)]) rfl (fun ls hl => ?_)
      refine lv_iconst (v := 2) hx hb dX0_restore_12 (by decide) ?_
      exact hret _ _ _ _ _ (g_iret hQ' hG ⟨G1, b', d', hXW, by rw [hk]; rfl, hO⟩ (by omega) (by omega) dX0_restore_13)
  · obtain ⟨k, hk, rfl, b', d', hXW⟩ := hR
    refine lv_goto hx hb dX0_restore_5 (tgt := 14) (by decide) ?_
    refine lv_iconst (v := 0) hx hb dX0_restore_14 (by decide) ?_
    exact hret _ _ _ _ _ (g_iret hQ' hG ⟨G1, b', d', hXW, by rw [hk]; rfl, hO⟩ (by omega) (by omega) dX0_restore_15)
/-! run -/
set_option maxRecDepth 100000 in
theorem w_X0_run {l : Launch} {x sz fr lo mc ms : Nat} {fx : List Value} {p0 : Int32} {r : XR} (hM : gMetX l yX1_run (ws_ yX1_run cX1_run 4 (some .int)) g.1 clX L0 (gK g) [.ref x, .int p0] Gs sz fr lo mc ms (XRR g.2.1 L0 x r) (XRT g.2.1 L0 x r)) (hGs : gx Gs G) (hx0 : Gs x = some (.inr (0, fx))) {oa : Nat} {fl : Nat → Int64} (ho : G oa = some (.inl (g.2.1 3, 1, .inr (.inl fl)))) (hoL : L0 ≤ oa) (hon : Gs oa = none) (hex : ∀ k, r.1 = .inl k → k = 1 ∨ k = 2) : gMetX l yX0_run (wsW_ yX0_run cX0_run 4 (some .int) [(0, 9, 12, 25), (0, 9, 15, 13)]) g.1 clX L0 (gK g) [.ref x, .int p0, .ref oa] G sz (fr + 1) (lo + 60) mc ms (fun v G' n => ∃ Gs' b' d' fl', XW g.2.1 L0 x r.2 b' d' Gs' ∧ v = some (.int (xk 1 r.1)) ∧ (∀ k, r.1 = .inr k → fl' 0 = k.toInt64) ∧ OW g.2.1 L0 sz Gs G oa fl' Gs' G') (fun _ _ _ => False) := by
  refine gMetX.ofH (own := RX0) (gK_ok g) (by decide +kernel) (Nat.le_of_ble_eq_true rfl) rfl ?_
  intro p e R s m args below meth c A Q ls H hF hQ htab hG hl
  have hx := hF.1.1
  have hb := hF.1.2.1
  have hts := hF.1.2.2.2.2
  obtain ⟨Q', hQ', hret⟩ := gx_ret hQ
  have hlt0 : oa < sz := hG.lt ho
  have hl : lv_has ls 4 [(0, .ref x), (1, .int p0), (2, .ref oa)] := hl
  refine lv_aload_n hx hb dX0_run_0 rfl (lv_at hl 2 rfl) ?_
  refine lv_iconst (v := 0) hx hb dX0_run_1 (by decide) ?_
  refine lv_aload_n hx hb dX0_run_2 rfl (lv_at hl 0 rfl) ?_
  refine lv_iload_n hx hb dX0_run_3 rfl (lv_at hl 1 rfl) ?_
  refine gx_callVF hF hG hGs hl hx0 (C := RX1) (T := TX1) (N := 7) rfl hM (cwV 1 hF.1.2.2.2.2 (lw_V q1736 q1737 q1738 q82 q1739) rfl rfl rfl (by decide +kernel) ⟨by rw [hF.2.2.2.2]; exact Nat.le_refl _, by rw [hF.2.2.2.2]; show 8 + (4 + 11) + lo ≤ lo + 60; omega⟩) (As := [.int p0]) rfl rfl (Nat.le_of_ble_eq_true rfl) dX0_run_4 ⟨by rw [hF.2.2.2.2]; show 0 + mc ≤ mc; omega, by rw [hF.2.2.2.2]; show 0 + ms ≤ ms; omega⟩ (fun E q ce G1 n1 H locs hR hO hG h1 h2 h3 => ?_) (fun v1 G1 n1 H locs hR hO hG => ?_)
  · obtain ⟨k, hk, rfl, b', d', hXW⟩ := hR
    rcases hex k hk with hk2 | hk2
    · subst hk2
      refine g_catch1 hF htab rfl (by decide) q1053 q156 h1 h2 h3 ?_
      refine lv_astore_n hx hb dX0_run_12 rfl hl (Nat.le_of_ble_eq_true rfl) (lv' := (3, .ref q) :: [(0, .ref x), (1, .int p0), (2, .ref oa)]) rfl (fun ls hl => ?_)
      refine lv_iconst (v := 1) hx hb dX0_run_13 (by decide) ?_
      exact hret _ _ _ _ _ (g_iret hQ' hG ⟨G1, b', d', fl, hXW, by rw [hk]; rfl, (fun k q => by rw [hk] at q; cases q), hO.toW hoL hon ho⟩ (by omega) (by omega) dX0_run_14)
    · subst hk2
      refine g_catch2 hF htab (by decide) q1053 (by decide) rfl (by decide) q986 q902 h1 h2 h3 ?_
      refine lv_astore_n hx hb dX0_run_15 rfl hl (Nat.le_of_ble_eq_true rfl) (lv' := (3, .ref q) :: [(0, .ref x), (1, .int p0), (2, .ref oa)]) rfl (fun ls hl => ?_)
      refine lv_iconst (v := 2) hx hb dX0_run_16 (by decide) ?_
      exact hret _ _ _ _ _ (g_iret hQ' hG ⟨G1, b', d', fl, hXW, by rw [hk]; rfl, (fun k q => by rw [hk] at q; cases q), hO.toW hoL hon ho⟩ (by omega) (by omega) dX0_run_17)
  · obtain ⟨k, hk, rfl, b', d', hXW⟩ := hR
    refine lv_i2l hx hb dX0_run_7 rfl ?_
    refine g_last hF hG (hO.toW (dA := g.2.1) hoL hon ho).2.2.1 hoL 3 rfl (show vp_in 0 1 from nI_in (c := 0) (by decide) (by decide)) dX0_run_8 (fun H locs hG => ?_)
    refine lv_goto hx hb dX0_run_9 (tgt := 18) (by decide) ?_
    refine lv_iconst (v := 0) hx hb dX0_run_18 (by decide) ?_
    exact hret _ _ _ _ _ (g_iret hQ' hG ⟨G1, b', d', _, hXW, by rw [hk]; rfl, (fun j q => by rw [hk] at q; cases q; rfl), hO.set hoL hon (hlt0)⟩ (by omega) (by omega) dX0_run_19)
/-! runsIn -/
set_option maxRecDepth 100000 in
theorem w_X0_runsIn {l : Launch} {x sz fr lo mc ms : Nat} {fx : List Value} {p0 : Int32} {r : XR} (hM : gMetX l yX1_runsIn (ws_ yX1_runsIn cX1_runsIn 3 (some .int)) g.1 clX L0 (gK g) [.ref x, .int p0] Gs sz fr lo mc ms (XRR g.2.1 L0 x r) (XRT g.2.1 L0 x r)) (hGs : gx Gs G) (hx0 : Gs x = some (.inr (0, fx))) {oa : Nat} {fl : Nat → Int64} (ho : G oa = some (.inl (g.2.1 3, 1, .inr (.inl fl)))) (hoL : L0 ≤ oa) (hon : Gs oa = none) (hex : ∀ k, r.1 = .inl k → k = 3 ∨ k = 4) : gMetX l yX0_runsIn (wsW_ yX0_runsIn cX0_runsIn 4 (some .int) [(0, 9, 12, 19), (0, 9, 15, 30)]) g.1 clX L0 (gK g) [.ref x, .int p0, .ref oa] G sz (fr + 1) (lo + 60) mc ms (fun v G' n => ∃ Gs' b' d' fl', XW g.2.1 L0 x r.2 b' d' Gs' ∧ v = some (.int (xk 3 r.1)) ∧ (∀ k, r.1 = .inr k → fl' 0 = k.toInt64) ∧ OW g.2.1 L0 sz Gs G oa fl' Gs' G') (fun _ _ _ => False) := by
  refine gMetX.ofH (own := RX0) (gK_ok g) (by decide +kernel) (Nat.le_of_ble_eq_true rfl) rfl ?_
  intro p e R s m args below meth c A Q ls H hF hQ htab hG hl
  have hx := hF.1.1
  have hb := hF.1.2.1
  have hts := hF.1.2.2.2.2
  obtain ⟨Q', hQ', hret⟩ := gx_ret hQ
  have hlt0 : oa < sz := hG.lt ho
  have hl : lv_has ls 4 [(0, .ref x), (1, .int p0), (2, .ref oa)] := hl
  refine lv_aload_n hx hb dX0_runsIn_0 rfl (lv_at hl 2 rfl) ?_
  refine lv_iconst (v := 0) hx hb dX0_runsIn_1 (by decide) ?_
  refine lv_aload_n hx hb dX0_runsIn_2 rfl (lv_at hl 0 rfl) ?_
  refine lv_iload_n hx hb dX0_runsIn_3 rfl (lv_at hl 1 rfl) ?_
  refine gx_callVF hF hG hGs hl hx0 (C := RX1) (T := TX1) (N := 7) rfl hM (cwV 1 hF.1.2.2.2.2 (lw_V q1585 q1586 q1587 q82 q1588) rfl rfl rfl (by decide +kernel) ⟨by rw [hF.2.2.2.2]; exact Nat.le_refl _, by rw [hF.2.2.2.2]; show 8 + (3 + 11) + lo ≤ lo + 60; omega⟩) (As := [.int p0]) rfl rfl (Nat.le_of_ble_eq_true rfl) dX0_runsIn_4 ⟨by rw [hF.2.2.2.2]; show 0 + mc ≤ mc; omega, by rw [hF.2.2.2.2]; show 0 + ms ≤ ms; omega⟩ (fun E q ce G1 n1 H locs hR hO hG h1 h2 h3 => ?_) (fun v1 G1 n1 H locs hR hO hG => ?_)
  · obtain ⟨k, hk, rfl, b', d', hXW⟩ := hR
    rcases hex k hk with hk2 | hk2
    · subst hk2
      refine g_catch1 hF htab rfl (by decide) q1006 q1037 h1 h2 h3 ?_
      refine lv_astore_n hx hb dX0_runsIn_12 rfl hl (Nat.le_of_ble_eq_true rfl) (lv' := (3, .ref q) :: [(0, .ref x), (1, .int p0), (2, .ref oa)]) rfl (fun ls hl => ?_)
      refine lv_iconst (v := 1) hx hb dX0_runsIn_13 (by decide) ?_
      exact hret _ _ _ _ _ (g_iret hQ' hG ⟨G1, b', d', fl, hXW, by rw [hk]; rfl, (fun k q => by rw [hk] at q; cases q), hO.toW hoL hon ho⟩ (by omega) (by omega) dX0_runsIn_14)
    · subst hk2
      refine g_catch2 hF htab (by decide) q1006 (by decide) rfl (by decide) q1464 q868 h1 h2 h3 ?_
      refine lv_astore_n hx hb dX0_runsIn_15 rfl hl (Nat.le_of_ble_eq_true rfl) (lv' := (3, .ref q) :: [(0, .ref x), (1, .int p0), (2, .ref oa)]) rfl (fun ls hl => ?_)
      refine lv_iconst (v := 2) hx hb dX0_runsIn_16 (by decide) ?_
      exact hret _ _ _ _ _ (g_iret hQ' hG ⟨G1, b', d', fl, hXW, by rw [hk]; rfl, (fun k q => by rw [hk] at q; cases q), hO.toW hoL hon ho⟩ (by omega) (by omega) dX0_runsIn_17)
  · obtain ⟨k, hk, rfl, b', d', hXW⟩ := hR
    refine lv_i2l hx hb dX0_runsIn_7 rfl ?_
    refine g_last hF hG (hO.toW (dA := g.2.1) hoL hon ho).2.2.1 hoL 3 rfl (show vp_in 0 1 from nI_in (c := 0) (by decide) (by decide)) dX0_runsIn_8 (fun H locs hG => ?_)
    refine lv_goto hx hb dX0_runsIn_9 (tgt := 18) (by decide) ?_
    refine lv_iconst (v := 0) hx hb dX0_runsIn_18 (by decide) ?_
    exact hret _ _ _ _ _ (g_iret hQ' hG ⟨G1, b', d', _, hXW, by rw [hk]; rfl, (fun j q => by rw [hk] at q; cases q; rfl), hO.set hoL hon (hlt0)⟩ (by omega) (by omega) dX0_runsIn_19)
/-! save -/
set_option maxRecDepth 100000 in
theorem w_X0_save {l : Launch} {x sz fr lo mc ms : Nat} {fx : List Value} {p0 : Int32} {r : XR} (hM : gMetX l yX1_save (ws_ yX1_save cX1_save 2 none) g.1 clX L0 (gK g) [.ref x, .int p0] Gs sz fr lo mc ms (XRV g.2.1 L0 x r) (XRT g.2.1 L0 x r)) (hGs : gx Gs G) (hx0 : Gs x = some (.inr (0, fx))) (hex : ∀ k, r.1 = .inl k → k = 3) : gMetX l yX0_save (wsW_ yX0_save cX0_save 3 (some .int) [(0, 5, 8, 19)]) g.1 clX L0 (gK g) [.ref x, .int p0] G sz (fr + 1) (lo + 60) mc ms (fun v G' n => ∃ Gs' b' d', XW g.2.1 L0 x r.2 b' d' Gs' ∧ v = some (.int (xk 3 r.1)) ∧ OV L0 sz Gs G Gs' G') (fun _ _ _ => False) := by
  refine gMetX.ofH (own := RX0) (gK_ok g) (by decide +kernel) (Nat.le_of_ble_eq_true rfl) rfl ?_
  intro p e R s m args below meth c A Q ls H hF hQ htab hG hl
  have hx := hF.1.1
  have hb := hF.1.2.1
  have hts := hF.1.2.2.2.2
  obtain ⟨Q', hQ', hret⟩ := gx_ret hQ
  have hl : lv_has ls 3 [(0, .ref x), (1, .int p0)] := hl
  refine lv_aload_n hx hb dX0_save_0 rfl (lv_at hl 0 rfl) ?_
  refine lv_iload_n hx hb dX0_save_1 rfl (lv_at hl 1 rfl) ?_
  refine gx_callVF hF hG hGs hl hx0 (C := RX1) (T := TX1) (N := 7) rfl hM (cwV 1 hF.1.2.2.2.2 (lw_V q1802 q1803 q1804 q82 q1805) rfl rfl rfl (by decide +kernel) ⟨by rw [hF.2.2.2.2]; exact Nat.le_refl _, by rw [hF.2.2.2.2]; show 8 + (2 + 11) + lo ≤ lo + 60; omega⟩) (As := [.int p0]) rfl rfl (Nat.le_of_ble_eq_true rfl) dX0_save_2 ⟨by rw [hF.2.2.2.2]; show 0 + mc ≤ mc; omega, by rw [hF.2.2.2.2]; show 0 + ms ≤ ms; omega⟩ (fun E q ce G1 n1 H locs hR hO hG h1 h2 h3 => ?_) (fun v1 G1 n1 H locs hR hO hG => ?_)
  · obtain ⟨k, hk, rfl, b', d', hXW⟩ := hR
    have hk2 := hex k hk
    subst hk2
    refine g_catch1 hF htab rfl (by decide) q1006 q1037 h1 h2 h3 ?_
    refine lv_astore_n hx hb dX0_save_8 rfl hl (Nat.le_of_ble_eq_true rfl) (lv' := (2, .ref q) :: [(0, .ref x), (1, .int p0)]) rfl (fun ls hl => ?_)
    refine lv_iconst (v := 1) hx hb dX0_save_9 (by decide) ?_
    exact hret _ _ _ _ _ (g_iret hQ' hG ⟨G1, b', d', hXW, by rw [hk]; rfl, hO⟩ (by omega) (by omega) dX0_save_10)
  · obtain ⟨k, hk, rfl, b', d', hXW⟩ := hR
    refine lv_goto hx hb dX0_save_5 (tgt := 11) (by decide) ?_
    refine lv_iconst (v := 0) hx hb dX0_save_11 (by decide) ?_
    exact hret _ _ _ _ _ (g_iret hQ' hG ⟨G1, b', d', hXW, by rw [hk]; rfl, hO⟩ (by omega) (by omega) dX0_save_12)
/-! sentIn -/
set_option maxRecDepth 100000 in
theorem w_X0_sentIn {l : Launch} {x sz fr lo mc ms : Nat} {fx : List Value} {p0 : Int32} {p1 : Int32} {r : XR} (hM : gMetX l yX1_sentIn (ws_ yX1_sentIn cX1_sentIn 5 (some .int)) g.1 clX L0 (gK g) [.ref x, .int p0, .int p1] Gs sz fr lo mc ms (XRR g.2.1 L0 x r) (XRT g.2.1 L0 x r)) (hGs : gx Gs G) (hx0 : Gs x = some (.inr (0, fx))) {oa : Nat} {fl : Nat → Int64} (ho : G oa = some (.inl (g.2.1 3, 1, .inr (.inl fl)))) (hoL : L0 ≤ oa) (hon : Gs oa = none) (hex : ∀ k, r.1 = .inl k → k = 1) : gMetX l yX0_sentIn (wsW_ yX0_sentIn cX0_sentIn 5 (some .int) [(0, 10, 13, 25)]) g.1 clX L0 (gK g) [.ref x, .int p0, .int p1, .ref oa] G sz (fr + 1) (lo + 60) mc ms (fun v G' n => ∃ Gs' b' d' fl', XW g.2.1 L0 x r.2 b' d' Gs' ∧ v = some (.int (xk 1 r.1)) ∧ (∀ k, r.1 = .inr k → fl' 0 = k.toInt64) ∧ OW g.2.1 L0 sz Gs G oa fl' Gs' G') (fun _ _ _ => False) := by
  refine gMetX.ofH (own := RX0) (gK_ok g) (by decide +kernel) (Nat.le_of_ble_eq_true rfl) rfl ?_
  intro p e R s m args below meth c A Q ls H hF hQ htab hG hl
  have hx := hF.1.1
  have hb := hF.1.2.1
  have hts := hF.1.2.2.2.2
  obtain ⟨Q', hQ', hret⟩ := gx_ret hQ
  have hlt0 : oa < sz := hG.lt ho
  have hl : lv_has ls 5 [(0, .ref x), (1, .int p0), (2, .int p1), (3, .ref oa)] := hl
  refine lv_aload_n hx hb dX0_sentIn_0 rfl (lv_at hl 3 rfl) ?_
  refine lv_iconst (v := 0) hx hb dX0_sentIn_1 (by decide) ?_
  refine lv_aload_n hx hb dX0_sentIn_2 rfl (lv_at hl 0 rfl) ?_
  refine lv_iload_n hx hb dX0_sentIn_3 rfl (lv_at hl 1 rfl) ?_
  refine lv_iload_n hx hb dX0_sentIn_4 rfl (lv_at hl 2 rfl) ?_
  refine gx_callVF hF hG hGs hl hx0 (C := RX1) (T := TX1) (N := 7) rfl hM (cwV 2 hF.1.2.2.2.2 (lw_V q1728 q1729 q1730 q82 q1731) rfl rfl rfl (by decide +kernel) ⟨by rw [hF.2.2.2.2]; exact Nat.le_refl _, by rw [hF.2.2.2.2]; show 8 + (5 + 11) + lo ≤ lo + 60; omega⟩) (As := [.int p0, .int p1]) rfl rfl (Nat.le_of_ble_eq_true rfl) dX0_sentIn_5 ⟨by rw [hF.2.2.2.2]; show 0 + mc ≤ mc; omega, by rw [hF.2.2.2.2]; show 0 + ms ≤ ms; omega⟩ (fun E q ce G1 n1 H locs hR hO hG h1 h2 h3 => ?_) (fun v1 G1 n1 H locs hR hO hG => ?_)
  · obtain ⟨k, hk, rfl, b', d', hXW⟩ := hR
    have hk2 := hex k hk
    subst hk2
    refine g_catch1 hF htab rfl (by decide) q1053 q156 h1 h2 h3 ?_
    refine lv_astore hx hb dX0_sentIn_13 hl (Nat.le_of_ble_eq_true rfl) (lv' := (4, .ref q) :: [(0, .ref x), (1, .int p0), (2, .int p1), (3, .ref oa)]) rfl (fun ls hl => ?_)
    refine lv_iconst (v := 1) hx hb dX0_sentIn_15 (by decide) ?_
    exact hret _ _ _ _ _ (g_iret hQ' hG ⟨G1, b', d', fl, hXW, by rw [hk]; rfl, (fun k q => by rw [hk] at q; cases q), hO.toW hoL hon ho⟩ (by omega) (by omega) dX0_sentIn_16)
  · obtain ⟨k, hk, rfl, b', d', hXW⟩ := hR
    refine lv_i2l hx hb dX0_sentIn_8 rfl ?_
    refine g_last hF hG (hO.toW (dA := g.2.1) hoL hon ho).2.2.1 hoL 3 rfl (show vp_in 0 1 from nI_in (c := 0) (by decide) (by decide)) dX0_sentIn_9 (fun H locs hG => ?_)
    refine lv_goto hx hb dX0_sentIn_10 (tgt := 17) (by decide) ?_
    refine lv_iconst (v := 0) hx hb dX0_sentIn_17 (by decide) ?_
    exact hret _ _ _ _ _ (g_iret hQ' hG ⟨G1, b', d', _, hXW, by rw [hk]; rfl, (fun j q => by rw [hk] at q; cases q; rfl), hO.set hoL hon (hlt0)⟩ (by omega) (by omega) dX0_sentIn_18)
/-! setFuse -/
set_option maxRecDepth 100000 in
theorem w_X0_setFuse {l : Launch} {x sz fr lo mc ms : Nat} {fx : List Value} {p0 : Int32} {r : XR} (hM : gMetX l yX1_setFuse (ws_ yX1_setFuse cX1_setFuse 3 (some .int)) g.1 clX L0 (gK g) [.ref x, .int p0] Gs sz fr lo mc ms (XRR g.2.1 L0 x r) (XRT g.2.1 L0 x r)) (hGs : gx Gs G) (hx0 : Gs x = some (.inr (0, fx))) {oa : Nat} {fl : Nat → Int64} (ho : G oa = some (.inl (g.2.1 3, 1, .inr (.inl fl)))) (hoL : L0 ≤ oa) (hon : Gs oa = none) (hex : ∀ k, r.1 = .inl k → k = 1) : gMetX l yX0_setFuse (wsW_ yX0_setFuse cX0_setFuse 4 (some .int) [(0, 9, 12, 25)]) g.1 clX L0 (gK g) [.ref x, .int p0, .ref oa] G sz (fr + 1) (lo + 60) mc ms (fun v G' n => ∃ Gs' b' d' fl', XW g.2.1 L0 x r.2 b' d' Gs' ∧ v = some (.int (xk 1 r.1)) ∧ (∀ k, r.1 = .inr k → fl' 0 = k.toInt64) ∧ OW g.2.1 L0 sz Gs G oa fl' Gs' G') (fun _ _ _ => False) := by
  refine gMetX.ofH (own := RX0) (gK_ok g) (by decide +kernel) (Nat.le_of_ble_eq_true rfl) rfl ?_
  intro p e R s m args below meth c A Q ls H hF hQ htab hG hl
  have hx := hF.1.1
  have hb := hF.1.2.1
  have hts := hF.1.2.2.2.2
  obtain ⟨Q', hQ', hret⟩ := gx_ret hQ
  have hlt0 : oa < sz := hG.lt ho
  have hl : lv_has ls 4 [(0, .ref x), (1, .int p0), (2, .ref oa)] := hl
  refine lv_aload_n hx hb dX0_setFuse_0 rfl (lv_at hl 2 rfl) ?_
  refine lv_iconst (v := 0) hx hb dX0_setFuse_1 (by decide) ?_
  refine lv_aload_n hx hb dX0_setFuse_2 rfl (lv_at hl 0 rfl) ?_
  refine lv_iload_n hx hb dX0_setFuse_3 rfl (lv_at hl 1 rfl) ?_
  refine gx_callVF hF hG hGs hl hx0 (C := RX1) (T := TX1) (N := 7) rfl hM (cwV 1 hF.1.2.2.2.2 (lw_V q1765 q1766 q1767 q82 q1768) rfl rfl rfl (by decide +kernel) ⟨by rw [hF.2.2.2.2]; exact Nat.le_refl _, by rw [hF.2.2.2.2]; show 8 + (3 + 11) + lo ≤ lo + 60; omega⟩) (As := [.int p0]) rfl rfl (Nat.le_of_ble_eq_true rfl) dX0_setFuse_4 ⟨by rw [hF.2.2.2.2]; show 0 + mc ≤ mc; omega, by rw [hF.2.2.2.2]; show 0 + ms ≤ ms; omega⟩ (fun E q ce G1 n1 H locs hR hO hG h1 h2 h3 => ?_) (fun v1 G1 n1 H locs hR hO hG => ?_)
  · obtain ⟨k, hk, rfl, b', d', hXW⟩ := hR
    have hk2 := hex k hk
    subst hk2
    refine g_catch1 hF htab rfl (by decide) q1053 q156 h1 h2 h3 ?_
    refine lv_astore_n hx hb dX0_setFuse_12 rfl hl (Nat.le_of_ble_eq_true rfl) (lv' := (3, .ref q) :: [(0, .ref x), (1, .int p0), (2, .ref oa)]) rfl (fun ls hl => ?_)
    refine lv_iconst (v := 1) hx hb dX0_setFuse_13 (by decide) ?_
    exact hret _ _ _ _ _ (g_iret hQ' hG ⟨G1, b', d', fl, hXW, by rw [hk]; rfl, (fun k q => by rw [hk] at q; cases q), hO.toW hoL hon ho⟩ (by omega) (by omega) dX0_setFuse_14)
  · obtain ⟨k, hk, rfl, b', d', hXW⟩ := hR
    refine lv_i2l hx hb dX0_setFuse_7 rfl ?_
    refine g_last hF hG (hO.toW (dA := g.2.1) hoL hon ho).2.2.1 hoL 3 rfl (show vp_in 0 1 from nI_in (c := 0) (by decide) (by decide)) dX0_setFuse_8 (fun H locs hG => ?_)
    refine lv_goto hx hb dX0_setFuse_9 (tgt := 15) (by decide) ?_
    refine lv_iconst (v := 0) hx hb dX0_setFuse_15 (by decide) ?_
    exact hret _ _ _ _ _ (g_iret hQ' hG ⟨G1, b', d', _, hXW, by rw [hk]; rfl, (fun j q => by rw [hk] at q; cases q; rfl), hO.set hoL hon (hlt0)⟩ (by omega) (by omega) dX0_setFuse_16)
/-! setPriority -/
set_option maxRecDepth 100000 in
theorem w_X0_setPriority {l : Launch} {x sz fr lo mc ms : Nat} {fx : List Value} {p0 : Int32} {p1 : Int32} {r : XR} (hM : gMetX l yX1_setPriority (ws_ yX1_setPriority cX1_setPriority 5 (some .int)) g.1 clX L0 (gK g) [.ref x, .int p0, .int p1] Gs sz fr lo mc ms (XRR g.2.1 L0 x r) (XRT g.2.1 L0 x r)) (hGs : gx Gs G) (hx0 : Gs x = some (.inr (0, fx))) {oa : Nat} {fl : Nat → Int64} (ho : G oa = some (.inl (g.2.1 3, 1, .inr (.inl fl)))) (hoL : L0 ≤ oa) (hon : Gs oa = none) (hex : ∀ k, r.1 = .inl k → k = 3 ∨ k = 1) : gMetX l yX0_setPriority (wsW_ yX0_setPriority cX0_setPriority 5 (some .int) [(0, 10, 13, 19), (0, 10, 17, 25)]) g.1 clX L0 (gK g) [.ref x, .int p0, .int p1, .ref oa] G sz (fr + 1) (lo + 60) mc ms (fun v G' n => ∃ Gs' b' d' fl', XW g.2.1 L0 x r.2 b' d' Gs' ∧ v = some (.int (xk 3 r.1)) ∧ (∀ k, r.1 = .inr k → fl' 0 = k.toInt64) ∧ OW g.2.1 L0 sz Gs G oa fl' Gs' G') (fun _ _ _ => False) := by
  refine gMetX.ofH (own := RX0) (gK_ok g) (by decide +kernel) (Nat.le_of_ble_eq_true rfl) rfl ?_
  intro p e R s m args below meth c A Q ls H hF hQ htab hG hl
  have hx := hF.1.1
  have hb := hF.1.2.1
  have hts := hF.1.2.2.2.2
  obtain ⟨Q', hQ', hret⟩ := gx_ret hQ
  have hlt0 : oa < sz := hG.lt ho
  have hl : lv_has ls 5 [(0, .ref x), (1, .int p0), (2, .int p1), (3, .ref oa)] := hl
  refine lv_aload_n hx hb dX0_setPriority_0 rfl (lv_at hl 3 rfl) ?_
  refine lv_iconst (v := 0) hx hb dX0_setPriority_1 (by decide) ?_
  refine lv_aload_n hx hb dX0_setPriority_2 rfl (lv_at hl 0 rfl) ?_
  refine lv_iload_n hx hb dX0_setPriority_3 rfl (lv_at hl 1 rfl) ?_
  refine lv_iload_n hx hb dX0_setPriority_4 rfl (lv_at hl 2 rfl) ?_
  refine gx_callVF hF hG hGs hl hx0 (C := RX1) (T := TX1) (N := 7) rfl hM (cwV 2 hF.1.2.2.2.2 (lw_V q1772 q1773 q1774 q82 q1775) rfl rfl rfl (by decide +kernel) ⟨by rw [hF.2.2.2.2]; exact Nat.le_refl _, by rw [hF.2.2.2.2]; show 8 + (5 + 11) + lo ≤ lo + 60; omega⟩) (As := [.int p0, .int p1]) rfl rfl (Nat.le_of_ble_eq_true rfl) dX0_setPriority_5 ⟨by rw [hF.2.2.2.2]; show 0 + mc ≤ mc; omega, by rw [hF.2.2.2.2]; show 0 + ms ≤ ms; omega⟩ (fun E q ce G1 n1 H locs hR hO hG h1 h2 h3 => ?_) (fun v1 G1 n1 H locs hR hO hG => ?_)
  · obtain ⟨k, hk, rfl, b', d', hXW⟩ := hR
    rcases hex k hk with hk2 | hk2
    · subst hk2
      refine g_catch1 hF htab rfl (by decide) q1006 q1037 h1 h2 h3 ?_
      refine lv_astore hx hb dX0_setPriority_13 hl (Nat.le_of_ble_eq_true rfl) (lv' := (4, .ref q) :: [(0, .ref x), (1, .int p0), (2, .int p1), (3, .ref oa)]) rfl (fun ls hl => ?_)
      refine lv_iconst (v := 1) hx hb dX0_setPriority_15 (by decide) ?_
      exact hret _ _ _ _ _ (g_iret hQ' hG ⟨G1, b', d', fl, hXW, by rw [hk]; rfl, (fun k q => by rw [hk] at q; cases q), hO.toW hoL hon ho⟩ (by omega) (by omega) dX0_setPriority_16)
    · subst hk2
      refine g_catch2 hF htab (by decide) q1006 (by decide) rfl (by decide) q1053 q156 h1 h2 h3 ?_
      refine lv_astore hx hb dX0_setPriority_17 hl (Nat.le_of_ble_eq_true rfl) (lv' := (4, .ref q) :: [(0, .ref x), (1, .int p0), (2, .int p1), (3, .ref oa)]) rfl (fun ls hl => ?_)
      refine lv_iconst (v := 2) hx hb dX0_setPriority_19 (by decide) ?_
      exact hret _ _ _ _ _ (g_iret hQ' hG ⟨G1, b', d', fl, hXW, by rw [hk]; rfl, (fun k q => by rw [hk] at q; cases q), hO.toW hoL hon ho⟩ (by omega) (by omega) dX0_setPriority_20)
  · obtain ⟨k, hk, rfl, b', d', hXW⟩ := hR
    refine lv_i2l hx hb dX0_setPriority_8 rfl ?_
    refine g_last hF hG (hO.toW (dA := g.2.1) hoL hon ho).2.2.1 hoL 3 rfl (show vp_in 0 1 from nI_in (c := 0) (by decide) (by decide)) dX0_setPriority_9 (fun H locs hG => ?_)
    refine lv_goto hx hb dX0_setPriority_10 (tgt := 21) (by decide) ?_
    refine lv_iconst (v := 0) hx hb dX0_setPriority_21 (by decide) ?_
    exact hret _ _ _ _ _ (g_iret hQ' hG ⟨G1, b', d', _, hXW, by rw [hk]; rfl, (fun j q => by rw [hk] at q; cases q; rfl), hO.set hoL hon (hlt0)⟩ (by omega) (by omega) dX0_setPriority_22)
/-! traffic -/
set_option maxRecDepth 100000 in
theorem w_X0_traffic {l : Launch} {x sz fr lo mc ms : Nat} {fx : List Value} {p0 : Int32} {p1 : Int32} {r : XR} (hM : gMetX l yX1_traffic (ws_ yX1_traffic cX1_traffic 3 (some .int)) g.1 clX L0 (gK g) [.ref x, .int p0, .int p1] Gs sz fr lo mc ms (XRR g.2.1 L0 x r) (XRT g.2.1 L0 x r)) (hGs : gx Gs G) (hx0 : Gs x = some (.inr (0, fx))) {oa : Nat} {fl : Nat → Int64} (ho : G oa = some (.inl (g.2.1 3, 1, .inr (.inl fl)))) (hoL : L0 ≤ oa) (hon : Gs oa = none) (hex : ∀ k, r.1 = .inl k → k = 1) : gMetX l yX0_traffic (wsW_ yX0_traffic cX0_traffic 5 (some .int) [(0, 10, 13, 25)]) g.1 clX L0 (gK g) [.ref x, .int p0, .int p1, .ref oa] G sz (fr + 1) (lo + 60) mc ms (fun v G' n => ∃ Gs' b' d' fl', XW g.2.1 L0 x r.2 b' d' Gs' ∧ v = some (.int (xk 1 r.1)) ∧ (∀ k, r.1 = .inr k → fl' 0 = k.toInt64) ∧ OW g.2.1 L0 sz Gs G oa fl' Gs' G') (fun _ _ _ => False) := by
  refine gMetX.ofH (own := RX0) (gK_ok g) (by decide +kernel) (Nat.le_of_ble_eq_true rfl) rfl ?_
  intro p e R s m args below meth c A Q ls H hF hQ htab hG hl
  have hx := hF.1.1
  have hb := hF.1.2.1
  have hts := hF.1.2.2.2.2
  obtain ⟨Q', hQ', hret⟩ := gx_ret hQ
  have hlt0 : oa < sz := hG.lt ho
  have hl : lv_has ls 5 [(0, .ref x), (1, .int p0), (2, .int p1), (3, .ref oa)] := hl
  refine lv_aload_n hx hb dX0_traffic_0 rfl (lv_at hl 3 rfl) ?_
  refine lv_iconst (v := 0) hx hb dX0_traffic_1 (by decide) ?_
  refine lv_aload_n hx hb dX0_traffic_2 rfl (lv_at hl 0 rfl) ?_
  refine lv_iload_n hx hb dX0_traffic_3 rfl (lv_at hl 1 rfl) ?_
  refine lv_iload_n hx hb dX0_traffic_4 rfl (lv_at hl 2 rfl) ?_
  refine gx_callVF hF hG hGs hl hx0 (C := RX1) (T := TX1) (N := 7) rfl hM (cwV 2 hF.1.2.2.2.2 (lw_V q1562 q1563 q1564 q82 q1565) rfl rfl rfl (by decide +kernel) ⟨by rw [hF.2.2.2.2]; exact Nat.le_refl _, by rw [hF.2.2.2.2]; show 8 + (3 + 11) + lo ≤ lo + 60; omega⟩) (As := [.int p0, .int p1]) rfl rfl (Nat.le_of_ble_eq_true rfl) dX0_traffic_5 ⟨by rw [hF.2.2.2.2]; show 0 + mc ≤ mc; omega, by rw [hF.2.2.2.2]; show 0 + ms ≤ ms; omega⟩ (fun E q ce G1 n1 H locs hR hO hG h1 h2 h3 => ?_) (fun v1 G1 n1 H locs hR hO hG => ?_)
  · obtain ⟨k, hk, rfl, b', d', hXW⟩ := hR
    have hk2 := hex k hk
    subst hk2
    refine g_catch1 hF htab rfl (by decide) q1053 q156 h1 h2 h3 ?_
    refine lv_astore hx hb dX0_traffic_13 hl (Nat.le_of_ble_eq_true rfl) (lv' := (4, .ref q) :: [(0, .ref x), (1, .int p0), (2, .int p1), (3, .ref oa)]) rfl (fun ls hl => ?_)
    refine lv_iconst (v := 1) hx hb dX0_traffic_15 (by decide) ?_
    exact hret _ _ _ _ _ (g_iret hQ' hG ⟨G1, b', d', fl, hXW, by rw [hk]; rfl, (fun k q => by rw [hk] at q; cases q), hO.toW hoL hon ho⟩ (by omega) (by omega) dX0_traffic_16)
  · obtain ⟨k, hk, rfl, b', d', hXW⟩ := hR
    refine lv_i2l hx hb dX0_traffic_8 rfl ?_
    refine g_last hF hG (hO.toW (dA := g.2.1) hoL hon ho).2.2.1 hoL 3 rfl (show vp_in 0 1 from nI_in (c := 0) (by decide) (by decide)) dX0_traffic_9 (fun H locs hG => ?_)
    refine lv_goto hx hb dX0_traffic_10 (tgt := 17) (by decide) ?_
    refine lv_iconst (v := 0) hx hb dX0_traffic_17 (by decide) ?_
    exact hret _ _ _ _ _ (g_iret hQ' hG ⟨G1, b', d', _, hXW, by rw [hk]; rfl, (fun j q => by rw [hk] at q; cases q; rfl), hO.set hoL hon (hlt0)⟩ (by omega) (by omega) dX0_traffic_18)
/-! truncate -/
set_option maxRecDepth 100000 in
theorem w_X0_truncate {l : Launch} {x sz fr lo mc ms : Nat} {fx : List Value} {p0 : Int32} {r : XR} (hM : gMetX l yX1_truncate (ws_ yX1_truncate cX1_truncate 2 (some .int)) g.1 clX L0 (gK g) [.ref x, .int p0] Gs sz fr lo mc ms (XRR g.2.1 L0 x r) (XRT g.2.1 L0 x r)) (hGs : gx Gs G) (hx0 : Gs x = some (.inr (0, fx))) {oa : Nat} {fl : Nat → Int64} (ho : G oa = some (.inl (g.2.1 3, 1, .inr (.inl fl)))) (hoL : L0 ≤ oa) (hon : Gs oa = none) (hex : ∀ k, r.1 = .inl k → k = 3) : gMetX l yX0_truncate (wsW_ yX0_truncate cX0_truncate 4 (some .int) [(0, 9, 12, 19)]) g.1 clX L0 (gK g) [.ref x, .int p0, .ref oa] G sz (fr + 1) (lo + 60) mc ms (fun v G' n => ∃ Gs' b' d' fl', XW g.2.1 L0 x r.2 b' d' Gs' ∧ v = some (.int (xk 3 r.1)) ∧ (∀ k, r.1 = .inr k → fl' 0 = k.toInt64) ∧ OW g.2.1 L0 sz Gs G oa fl' Gs' G') (fun _ _ _ => False) := by
  refine gMetX.ofH (own := RX0) (gK_ok g) (by decide +kernel) (Nat.le_of_ble_eq_true rfl) rfl ?_
  intro p e R s m args below meth c A Q ls H hF hQ htab hG hl
  have hx := hF.1.1
  have hb := hF.1.2.1
  have hts := hF.1.2.2.2.2
  obtain ⟨Q', hQ', hret⟩ := gx_ret hQ
  have hlt0 : oa < sz := hG.lt ho
  have hl : lv_has ls 4 [(0, .ref x), (1, .int p0), (2, .ref oa)] := hl
  refine lv_aload_n hx hb dX0_truncate_0 rfl (lv_at hl 2 rfl) ?_
  refine lv_iconst (v := 0) hx hb dX0_truncate_1 (by decide) ?_
  refine lv_aload_n hx hb dX0_truncate_2 rfl (lv_at hl 0 rfl) ?_
  refine lv_iload_n hx hb dX0_truncate_3 rfl (lv_at hl 1 rfl) ?_
  refine gx_callVF hF hG hGs hl hx0 (C := RX1) (T := TX1) (N := 7) rfl hM (cwV 1 hF.1.2.2.2.2 (lw_V q1025 q1026 q1027 q82 q1028) rfl rfl rfl (by decide +kernel) ⟨by rw [hF.2.2.2.2]; exact Nat.le_refl _, by rw [hF.2.2.2.2]; show 8 + (2 + 11) + lo ≤ lo + 60; omega⟩) (As := [.int p0]) rfl rfl (Nat.le_of_ble_eq_true rfl) dX0_truncate_4 ⟨by rw [hF.2.2.2.2]; show 0 + mc ≤ mc; omega, by rw [hF.2.2.2.2]; show 0 + ms ≤ ms; omega⟩ (fun E q ce G1 n1 H locs hR hO hG h1 h2 h3 => ?_) (fun v1 G1 n1 H locs hR hO hG => ?_)
  · obtain ⟨k, hk, rfl, b', d', hXW⟩ := hR
    have hk2 := hex k hk
    subst hk2
    refine g_catch1 hF htab rfl (by decide) q1006 q1037 h1 h2 h3 ?_
    refine lv_astore_n hx hb dX0_truncate_12 rfl hl (Nat.le_of_ble_eq_true rfl) (lv' := (3, .ref q) :: [(0, .ref x), (1, .int p0), (2, .ref oa)]) rfl (fun ls hl => ?_)
    refine lv_iconst (v := 1) hx hb dX0_truncate_13 (by decide) ?_
    exact hret _ _ _ _ _ (g_iret hQ' hG ⟨G1, b', d', fl, hXW, by rw [hk]; rfl, (fun k q => by rw [hk] at q; cases q), hO.toW hoL hon ho⟩ (by omega) (by omega) dX0_truncate_14)
  · obtain ⟨k, hk, rfl, b', d', hXW⟩ := hR
    refine lv_i2l hx hb dX0_truncate_7 rfl ?_
    refine g_last hF hG (hO.toW (dA := g.2.1) hoL hon ho).2.2.1 hoL 3 rfl (show vp_in 0 1 from nI_in (c := 0) (by decide) (by decide)) dX0_truncate_8 (fun H locs hG => ?_)
    refine lv_goto hx hb dX0_truncate_9 (tgt := 15) (by decide) ?_
    refine lv_iconst (v := 0) hx hb dX0_truncate_15 (by decide) ?_
    exact hret _ _ _ _ _ (g_iret hQ' hG ⟨G1, b', d', _, hXW, by rw [hk]; rfl, (fun j q => by rw [hk] at q; cases q; rfl), hO.set hoL hon (hlt0)⟩ (by omega) (by omega) dX0_truncate_16)
/-! undo -/
set_option maxRecDepth 100000 in
theorem w_X0_undo {l : Launch} {x sz fr lo mc ms : Nat} {fx : List Value} {r : XR} (hM : gMetX l yX1_undo (ws_ yX1_undo cX1_undo 1 (some .int)) g.1 clX L0 (gK g) [.ref x] Gs sz fr lo mc ms (XRR g.2.1 L0 x r) (XRT g.2.1 L0 x r)) (hGs : gx Gs G) (hx0 : Gs x = some (.inr (0, fx))) {oa : Nat} {fl : Nat → Int64} (ho : G oa = some (.inl (g.2.1 3, 1, .inr (.inl fl)))) (hoL : L0 ≤ oa) (hon : Gs oa = none) (hex : ∀ k, r.1 = .inl k → k = 2) : gMetX l yX0_undo (wsW_ yX0_undo cX0_undo 3 (some .int) [(0, 8, 11, 13)]) g.1 clX L0 (gK g) [.ref x, .ref oa] G sz (fr + 1) (lo + 60) mc ms (fun v G' n => ∃ Gs' b' d' fl', XW g.2.1 L0 x r.2 b' d' Gs' ∧ v = some (.int (xk 2 r.1)) ∧ (∀ k, r.1 = .inr k → fl' 0 = k.toInt64) ∧ OW g.2.1 L0 sz Gs G oa fl' Gs' G') (fun _ _ _ => False) := by
  refine gMetX.ofH (own := RX0) (gK_ok g) (by decide +kernel) (Nat.le_of_ble_eq_true rfl) rfl ?_
  intro p e R s m args below meth c A Q ls H hF hQ htab hG hl
  have hx := hF.1.1
  have hb := hF.1.2.1
  have hts := hF.1.2.2.2.2
  obtain ⟨Q', hQ', hret⟩ := gx_ret hQ
  have hlt0 : oa < sz := hG.lt ho
  have hl : lv_has ls 3 [(0, .ref x), (1, .ref oa)] := hl
  refine lv_aload_n hx hb dX0_undo_0 rfl (lv_at hl 1 rfl) ?_
  refine lv_iconst (v := 0) hx hb dX0_undo_1 (by decide) ?_
  refine lv_aload_n hx hb dX0_undo_2 rfl (lv_at hl 0 rfl) ?_
  refine gx_callVF hF hG hGs hl hx0 (C := RX1) (T := TX1) (N := 7) rfl hM (cwV 0 hF.1.2.2.2.2 (lw_V q1780 q1781 q1782 q82 q1783) rfl rfl rfl (by decide +kernel) ⟨by rw [hF.2.2.2.2]; exact Nat.le_refl _, by rw [hF.2.2.2.2]; show 8 + (1 + 11) + lo ≤ lo + 60; omega⟩) (As := []) rfl rfl (Nat.le_of_ble_eq_true rfl) dX0_undo_3 ⟨by rw [hF.2.2.2.2]; show 0 + mc ≤ mc; omega, by rw [hF.2.2.2.2]; show 0 + ms ≤ ms; omega⟩ (fun E q ce G1 n1 H locs hR hO hG h1 h2 h3 => ?_) (fun v1 G1 n1 H locs hR hO hG => ?_)
  · obtain ⟨k, hk, rfl, b', d', hXW⟩ := hR
    have hk2 := hex k hk
    subst hk2
    refine g_catch1 hF htab rfl (by decide) q986 q902 h1 h2 h3 ?_
    refine lv_astore_n hx hb dX0_undo_11 rfl hl (Nat.le_of_ble_eq_true rfl) (lv' := (2, .ref q) :: [(0, .ref x), (1, .ref oa)]) rfl (fun ls hl => ?_)
    refine lv_iconst (v := 1) hx hb dX0_undo_12 (by decide) ?_
    exact hret _ _ _ _ _ (g_iret hQ' hG ⟨G1, b', d', fl, hXW, by rw [hk]; rfl, (fun k q => by rw [hk] at q; cases q), hO.toW hoL hon ho⟩ (by omega) (by omega) dX0_undo_13)
  · obtain ⟨k, hk, rfl, b', d', hXW⟩ := hR
    refine lv_i2l hx hb dX0_undo_6 rfl ?_
    refine g_last hF hG (hO.toW (dA := g.2.1) hoL hon ho).2.2.1 hoL 3 rfl (show vp_in 0 1 from nI_in (c := 0) (by decide) (by decide)) dX0_undo_7 (fun H locs hG => ?_)
    refine lv_goto hx hb dX0_undo_8 (tgt := 14) (by decide) ?_
    refine lv_iconst (v := 0) hx hb dX0_undo_14 (by decide) ?_
    exact hret _ _ _ _ _ (g_iret hQ' hG ⟨G1, b', d', _, hXW, by rw [hk]; rfl, (fun j q => by rw [hk] at q; cases q; rfl), hO.set hoL hon (hlt0)⟩ (by omega) (by omega) dX0_undo_15)
/-! why -/
set_option maxRecDepth 100000 in
theorem w_X0_why {l : Launch} {x sz fr lo mc ms : Nat} {fx : List Value} {p0 : Int32} {r : XR} (hM : gMetX l yX1_why (ws_ yX1_why cX1_why 3 (some .int)) g.1 clX L0 (gK g) [.ref x, .int p0] Gs sz fr lo mc ms (XRR g.2.1 L0 x r) (XRT g.2.1 L0 x r)) (hGs : gx Gs G) (hx0 : Gs x = some (.inr (0, fx))) {oa : Nat} {fl : Nat → Int64} (ho : G oa = some (.inl (g.2.1 3, 1, .inr (.inl fl)))) (hoL : L0 ≤ oa) (hon : Gs oa = none) (hex : ∀ k, r.1 = .inl k → k = 3) : gMetX l yX0_why (wsW_ yX0_why cX0_why 4 (some .int) [(0, 9, 12, 19)]) g.1 clX L0 (gK g) [.ref x, .int p0, .ref oa] G sz (fr + 1) (lo + 60) mc ms (fun v G' n => ∃ Gs' b' d' fl', XW g.2.1 L0 x r.2 b' d' Gs' ∧ v = some (.int (xk 3 r.1)) ∧ (∀ k, r.1 = .inr k → fl' 0 = k.toInt64) ∧ OW g.2.1 L0 sz Gs G oa fl' Gs' G') (fun _ _ _ => False) := by
  refine gMetX.ofH (own := RX0) (gK_ok g) (by decide +kernel) (Nat.le_of_ble_eq_true rfl) rfl ?_
  intro p e R s m args below meth c A Q ls H hF hQ htab hG hl
  have hx := hF.1.1
  have hb := hF.1.2.1
  have hts := hF.1.2.2.2.2
  obtain ⟨Q', hQ', hret⟩ := gx_ret hQ
  have hlt0 : oa < sz := hG.lt ho
  have hl : lv_has ls 4 [(0, .ref x), (1, .int p0), (2, .ref oa)] := hl
  refine lv_aload_n hx hb dX0_why_0 rfl (lv_at hl 2 rfl) ?_
  refine lv_iconst (v := 0) hx hb dX0_why_1 (by decide) ?_
  refine lv_aload_n hx hb dX0_why_2 rfl (lv_at hl 0 rfl) ?_
  refine lv_iload_n hx hb dX0_why_3 rfl (lv_at hl 1 rfl) ?_
  refine gx_callVF hF hG hGs hl hx0 (C := RX1) (T := TX1) (N := 7) rfl hM (cwV 1 hF.1.2.2.2.2 (lw_V q1577 q1578 q1579 q82 q1580) rfl rfl rfl (by decide +kernel) ⟨by rw [hF.2.2.2.2]; exact Nat.le_refl _, by rw [hF.2.2.2.2]; show 8 + (3 + 11) + lo ≤ lo + 60; omega⟩) (As := [.int p0]) rfl rfl (Nat.le_of_ble_eq_true rfl) dX0_why_4 ⟨by rw [hF.2.2.2.2]; show 0 + mc ≤ mc; omega, by rw [hF.2.2.2.2]; show 0 + ms ≤ ms; omega⟩ (fun E q ce G1 n1 H locs hR hO hG h1 h2 h3 => ?_) (fun v1 G1 n1 H locs hR hO hG => ?_)
  · obtain ⟨k, hk, rfl, b', d', hXW⟩ := hR
    have hk2 := hex k hk
    subst hk2
    refine g_catch1 hF htab rfl (by decide) q1006 q1037 h1 h2 h3 ?_
    refine lv_astore_n hx hb dX0_why_12 rfl hl (Nat.le_of_ble_eq_true rfl) (lv' := (3, .ref q) :: [(0, .ref x), (1, .int p0), (2, .ref oa)]) rfl (fun ls hl => ?_)
    refine lv_iconst (v := 1) hx hb dX0_why_13 (by decide) ?_
    exact hret _ _ _ _ _ (g_iret hQ' hG ⟨G1, b', d', fl, hXW, by rw [hk]; rfl, (fun k q => by rw [hk] at q; cases q), hO.toW hoL hon ho⟩ (by omega) (by omega) dX0_why_14)
  · obtain ⟨k, hk, rfl, b', d', hXW⟩ := hR
    refine lv_i2l hx hb dX0_why_7 rfl ?_
    refine g_last hF hG (hO.toW (dA := g.2.1) hoL hon ho).2.2.1 hoL 3 rfl (show vp_in 0 1 from nI_in (c := 0) (by decide) (by decide)) dX0_why_8 (fun H locs hG => ?_)
    refine lv_goto hx hb dX0_why_9 (tgt := 15) (by decide) ?_
    refine lv_iconst (v := 0) hx hb dX0_why_15 (by decide) ?_
    exact hret _ _ _ _ _ (g_iret hQ' hG ⟨G1, b', d', _, hXW, by rw [hk]; rfl, (fun j q => by rw [hk] at q; cases q; rfl), hO.set hoL hon (hlt0)⟩ (by omega) (by omega) dX0_why_16)
end X0
