/-! BlackoutStart.allIn -/
def c_allFin (su : SU) (sc : SC) (σ : SS) : Option (Nat ⊕ Int32) := ob1 (c_X2_rights su σ) fun set => ob1 (c_ticks su sc set 502 0 σ) fun r => oN r (some (Sum.inl 4)) fun v => some (Sum.inr v)
def c_X1_allIn (su : SU) (sc : SC) (na : Nat) (σ : SS) (p0 : Int32) : Option (Nat ⊕ Int32) :=
  ob1 (j_X1_in p0.toInt64 0 3) fun v => if v = 0 then some (Sum.inl 1) else
  gd (σ.1 25 = 0 ∨ σ.1 25 = 1) <|
  if p0 = 1 then c_allFin su (na, 0, fun _ => 0) (cpS σ)
  else if p0 = 2 then c_allFin su sc (S_sf (cpS σ) 25 (if (cpS σ).1 25 = 0 then 1 else 0))
  else if p0 = 3 then ob2 (c_X2_forget (cpS σ)) fun _ σ' => c_allFin su sc σ'
  else c_allFin su sc (cpS σ)
theorem S_sf_id {σ : SS} {k : Nat} : S_sf σ k (σ.1 k) = σ := by
  unfold S_sf upd
  have : (fun j => if j = k then σ.1 k else σ.1 j) = σ.1 := by
    funext j
    by_cases h : j = k
    · rw [if_pos h, h]
    · rw [if_neg h]
  rw [this]
section ALL
variable {L0 b d x sz : Nat} {g : gNum} {sc : SC} {su : SU} {σ : SS} {G : GH} {iv by_ : Nat → Int32} {hi : List SS} {so : Nat → Option SS} {p0 : Int32}
set_option maxRecDepth 100000 in
theorem w_X1_allIn {l : Launch} (hst : l.stackTraces = false) (hX : XW g.2.1 L0 x (su, sc, σ, iv, by_, hi, so) b d G) {out : Nat ⊕ Int32} (h : c_X1_allIn su sc (sz + 18) σ p0 = some out) : gMetX l yX1_allIn (ws_ yX1_allIn cX1_allIn 4 (some .int)) g.1 clX L0 (gK g) [.ref x, .int p0] G sz 13 300 1524 9342 (fun v G' n => ∃ r, out = .inr r ∧ v = some (.int r) ∧ gx G G') (fun E _ G' => ∃ k, out = .inl k ∧ E = exN k ∧ gx G G') := by
  refine gMetX.of (own := RX1) (gK_ok g) (by decide +kernel) (Nat.le_of_ble_eq_true rfl) rfl ?_
  intro p e R s m args below meth c A Q ls H hF hQ hnt hG hl
  have hx := hF.1.1
  have hb := hF.1.2.1
  have hts := hF.1.2.2.2.2
  obtain ⟨Q', hQ', hret⟩ := gx_ret hQ
  have hl : lv_has ls 4 [(0, .ref x), (1, .int p0)] := hl
  obtain ⟨bb, hd, he, sl, f, h9, t9, Bs, S, o⟩ := hX
  obtain ⟨hid, hL0, hsu, hsc, hfx, hfb, hfh, hfe, hfs⟩ := o.use
  have hlt : ∀ a e, G a = some e → a < sz := fun a e q => hG.lt q
  have hbn : b < sz := hlt _ _ o.2.2.2.2.2.1.2.1.1
  have hLs : L0 ≤ sz := Nat.le_trans hL0 (Nat.le_of_lt hbn)
  have fin : ∀ (sc2 : SC) (σ2 : SS) (G1 : GH) (n2 : Nat) (H : Heap) (locs : List Loc) (ls : Array Slot), gx G G1 → suOK g.2.1 su sz 0 G1 → suAt sz 0 G1 sc2.1 (.inl (g.2.1 0, sc2.2.1, .inl sc2.2.2)) → c_allFin su sc2 σ2 = some out → gJK g L0 A s.heap (sG g.2.1 sz 0 (su.1 0) sc2 σ2 G1) n2 H locs → lv_has ls 4 [(2, .ref sz)] → W p l e R s m args below meth c H locs 20 317 Q (F0 m 72 ls []) := by
    intro sc2 σ2 G1 n2 H locs ls hx1 hsu hsc h hG hl
    unfold c_allFin at h
    refine lv_aload_n hx hb dX1_allIn_72 rfl (lv_at hl 0 rfl) ?_
    refine lv_aload_n hx hb dX1_allIn_73 rfl (lv_at hl 0 rfl) ?_
    refine k_X2_rights q784 hF hLs hsu hsc hG hl (Nat.le_of_ble_eq_true rfl) (Nat.le_of_ble_eq_true rfl) h ⟨Nat.le_of_ble_eq_true rfl, Nat.le_of_ble_eq_true rfl⟩ (Nat.le_of_ble_eq_true rfl) dX1_allIn_74 (fun set H locs h hG => ?_)
    refine kx_ticks q1589 hst hF hQ hnt hLs hsu hsc hG hl (Nat.le_of_ble_eq_true rfl) (Nat.le_of_ble_eq_true rfl) h ⟨Nat.le_of_ble_eq_true rfl, Nat.le_of_ble_eq_true rfl⟩ ⟨Nat.le_of_ble_eq_true rfl, Nat.le_of_ble_eq_true rfl⟩ (Nat.le_of_ble_eq_true rfl) dX1_allIn_77 (fun h q σ' G2 hx2 => ?_) (fun r σ' G2 n2 H locs h hx2 hG => ?_)
    · exact ⟨4, (Option.some.inj h).symm, rfl, gx_two hlt (hx1.tr hx2)⟩
    · exact hret _ _ _ _ _ (g_iret hQ' hG ⟨r, (Option.some.inj h).symm, rfl, gx_two hlt (hx1.tr hx2)⟩ (Nat.le_of_ble_eq_true rfl) (Nat.le_of_ble_eq_true rfl) dX1_allIn_80)
  unfold c_X1_allIn at h
  refine lv_iload_n hx hb dX1_allIn_0 rfl (lv_at hl 1 rfl) ?_
  refine lv_i2l hx hb dX1_allIn_1 rfl ?_
  refine lv_lconst (v := 0) hx hb dX1_allIn_2 (by decide) ?_
  refine lv_ldc2 (v := 3) hx hb hF.1.2.2.2.1 (hts _ q1530) dX1_allIn_3 ?_
  refine kx_in q1029 hF hG hl (Nat.le_of_ble_eq_true rfl) (Nat.le_of_ble_eq_true rfl) h ⟨Nat.le_of_ble_eq_true rfl, Nat.le_of_ble_eq_true rfl⟩ (Nat.le_of_ble_eq_true rfl) dX1_allIn_6 (fun v H locs h hG => ?_)
  refine kx_chk1 q1452 hst hF hQ hnt hG hl (Nat.le_of_ble_eq_true rfl) (Nat.le_of_ble_eq_true rfl) h ⟨Nat.le_of_ble_eq_true rfl, Nat.le_of_ble_eq_true rfl⟩ ⟨Nat.le_of_ble_eq_true rfl, Nat.le_of_ble_eq_true rfl⟩ (Nat.le_of_ble_eq_true rfl) dX1_allIn_9 (fun h q => ⟨1, (Option.some.inj h).symm, rfl, gx_rfl⟩) (fun h H locs hG => ?_)
  refine lv_aload_n hx hb dX1_allIn_12 rfl (lv_at hl 0 rfl) ?_
  refine g_get hF hG hfx.1 (C := RX1) (T := TX1) (N := 7) rfl in_X1 4 (by decide) q754 (fun _ h => h) (v := .ref b) rfl dX1_allIn_13 ?_
  obtain ⟨hz, h⟩ := gd_e h
  refine kx_copy q953 hF hG hl o.2.2.2.2.2.1 o.2.2.2.2.2.2.2.2.1 hz (Nat.le_of_ble_eq_true rfl) (Nat.le_of_ble_eq_true rfl) ⟨Nat.le_of_ble_eq_true rfl, Nat.le_of_ble_eq_true rfl⟩ (Nat.le_of_ble_eq_true rfl) dX1_allIn_16 (fun H locs hG => ?_)
  refine lv_astore_n hx hb dX1_allIn_19 rfl hl (Nat.le_of_ble_eq_true rfl) (lv' := [(2, .ref sz), (0, .ref x), (1, .int p0)]) rfl (fun ls hl => ?_)
  have hsu2 := hsu.lo hlt
  have hsc2 : suAt sz 0 G sc.1 (.inl (g.2.1 0, sc.2.1, .inl sc.2.2)) := hsc.lo hlt
  refine lv_iload_n hx hb dX1_allIn_20 rfl (lv_at hl 2 rfl) ?_
  refine lv_iconst (v := 1) hx hb dX1_allIn_21 (by decide) ?_
  refine gb_icmp_ne hx hb dX1_allIn_22 (tgt := 38) (by decide) h (fun h => ?_) (fun h => ?_)
  · refine lv_iload_n hx hb dX1_allIn_38 rfl (lv_at hl 2 rfl) ?_
    refine lv_iconst (v := 2) hx hb dX1_allIn_39 (by decide) ?_
    refine gb_icmp_ne hx hb dX1_allIn_40 (tgt := 62) (by decide) h (fun h => ?_) (fun h => ?_)
    · refine lv_iload_n hx hb dX1_allIn_62 rfl (lv_at hl 2 rfl) ?_
      refine lv_iconst (v := 3) hx hb dX1_allIn_63 (by decide) ?_
      refine gb_icmp_ne hx hb dX1_allIn_64 (tgt := 72) (by decide) h (fun h => ?_) (fun h => ?_)
      · exact W.widen (Nat.le_of_ble_eq_true rfl) (Nat.le_of_ble_eq_true rfl) (fin sc _ G _ H locs ls gx_rfl hsu2 hsc2 h hG (lv_sub hl [0] rfl))
      · refine lv_aload_n hx hb dX1_allIn_67 rfl (lv_at hl 0 rfl) ?_
        refine k_X2_forget q973 hF hLs hsu2 hsc2 hG hl (Nat.le_of_ble_eq_true rfl) (Nat.le_of_ble_eq_true rfl) h ⟨Nat.le_of_ble_eq_true rfl, Nat.le_of_ble_eq_true rfl⟩ (Nat.le_of_ble_eq_true rfl) dX1_allIn_68 (fun r σ1 H locs h hG => ?_)
        refine lv_istore_n hx hb dX1_allIn_71 rfl hl (Nat.le_of_ble_eq_true rfl) (lv' := [(3, .int r), (2, .ref sz), (0, .ref x), (1, .int p0)]) rfl (fun ls hl => ?_)
        exact W.widen (Nat.le_of_ble_eq_true rfl) (Nat.le_of_ble_eq_true rfl) (fin sc _ G _ H locs ls gx_rfl hsu2 hsc2 h hG (lv_sub hl [1] rfl))
    · refine lv_aload_n hx hb dX1_allIn_43 rfl (lv_at hl 0 rfl) ?_
      refine lv_aload_n hx hb dX1_allIn_44 rfl (lv_at hl 0 rfl) ?_
      refine g_getN hF hG sG_0 (C := RX2) (T := TX2) (N := 26) rfl in_X2 25 (by decide) q635 (fun _ h => h) (v := .int ((cpS σ).1 25)) rfl dX1_allIn_45 ?_
      refine lv_if_ne hx hb dX1_allIn_48 (tgt := 55) (by decide) (fun hn => ?_) (fun hn => ?_)
      · rw [if_neg hn] at h
        refine lv_iconst (v := 0) hx hb dX1_allIn_55 (by decide) ?_
        refine g_putN hF hG sG_0 hLs (C := RX2) (T := TX2) (N := 26) rfl in_X2 tyX2 tyX2_ok nmX2 25 (by decide) q635 (fun x h => h) rfl (by decide) (by decide) (by show 25 < 26; decide) dX1_allIn_56 (fun H locs hG => ?_)
        rw [sG_sf0 (by decide)] at hG
        refine lv_goto hx hb dX1_allIn_59 (tgt := 72) (by decide) ?_
        exact W.widen (Nat.le_of_ble_eq_true rfl) (Nat.le_of_ble_eq_true rfl) (fin sc _ G _ H locs ls gx_rfl hsu2 hsc2 h hG (lv_sub hl [0] rfl))
      · rw [if_pos hn] at h
        refine lv_iconst (v := 1) hx hb dX1_allIn_51 (by decide) ?_
        refine lv_goto hx hb dX1_allIn_52 (tgt := 56) (by decide) ?_
        refine g_putN hF hG sG_0 hLs (C := RX2) (T := TX2) (N := 26) rfl in_X2 tyX2 tyX2_ok nmX2 25 (by decide) q635 (fun x h => h) rfl (by decide) (by decide) (by show 25 < 26; decide) dX1_allIn_56 (fun H locs hG => ?_)
        rw [sG_sf0 (by decide)] at hG
        refine lv_goto hx hb dX1_allIn_59 (tgt := 72) (by decide) ?_
        exact W.widen (Nat.le_of_ble_eq_true rfl) (Nat.le_of_ble_eq_true rfl) (fin sc _ G _ H locs ls gx_rfl hsu2 hsc2 h hG (lv_sub hl [0] rfl))
  · refine lv_aload_n hx hb dX1_allIn_25 rfl (lv_at hl 0 rfl) ?_
    refine g_getN hF hG sG_0 (C := RX2) (T := TX2) (N := 26) rfl in_X2 9 (by decide) q607 (fun _ h => h) (v := .ref (sz + 0 + 14)) rfl dX1_allIn_26 ?_
    refine lv_iconst (v := 0) hx hb dX1_allIn_29 (by decide) ?_
    refine g_newa hF hG (ty := .int) rfl q538 (cA := g.2.1 0) 0 rfl (fun _ q => by cases q) (i := 0) (N := 0) (a0 := (0, .inl (fun _ => 0))) (fun _ => rfl) (by decide) (by decide) (by decide) (by rw [hF.2.2.2.2]; exact Nat.le_of_ble_eq_true rfl) (by rw [hF.2.2.2.2]; exact Nat.le_of_ble_eq_true rfl) dX1_allIn_30 (fun H hG => ?_)
    rw [sG_gU (by omega)] at hG
    have hx1 : gx G (gU G (sz + 18) (.inl (g.2.1 0, 0, .inl (fun _ => 0)))) := fun a e q => by rw [gU_n (by have := hlt a e q; omega)]; exact q
    refine g_putN hF hG sG_14 (by omega) (C := RX5) (T := TX5) (N := 5) rfl in_X5 tyX5 tyX5_ok nmX5 4 (by decide) q577 (fun x h => h) rfl (by first | rfl | decide) rfl (by show 4 < 5; decide) dX1_allIn_32 (fun H locs hG => ?_)
    have hG : gJK g L0 A s.heap (gU (sG g.2.1 sz 0 (su.1 0) sc (cpS σ) (gU G (sz + 18) (.inl (g.2.1 0, 0, .inl (fun _ => 0))))) (sz + 0 + 14) (.inr (4, [.ref (sz + 0 + 15), .ref (sz + 0 + 16), .ref (sz + 0 + 17), .int ((cpS σ).1 32), .ref ((sz + 18, 0, fun _ => 0) : SC).1]))) (sz + 18 + 1) H locs := hG
    rw [sG_sc14, S_sf_id] at hG
    refine lv_goto hx hb dX1_allIn_35 (tgt := 72) (by decide) ?_
    exact W.widen (Nat.le_of_ble_eq_true rfl) (Nat.le_of_ble_eq_true rfl) (fin (sz + 18, 0, fun _ => 0) _ _ _ H locs ls hx1 (hsu2.ext hx1) ⟨gU_s, gO_hi (by omega)⟩ h hG (lv_sub hl [0] rfl))
end ALL
