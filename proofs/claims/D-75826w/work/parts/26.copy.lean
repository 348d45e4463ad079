/-! State.copy -/
def cp1 (σ : SS) : SS := S_sA zS 1 (va_cpy (σ.2 1) (zS.2 1) 0 0 12)
def cp2 (σ : SS) : SS := S_sA ((cp1 σ)) 2 (va_cpy (σ.2 2) (((cp1 σ)).2 2) 0 0 12)
def cp3 (σ : SS) : SS := S_sA ((cp2 σ)) 3 (va_cpy (σ.2 3) (((cp2 σ)).2 3) 0 0 12)
def cp4 (σ : SS) : SS := S_sA ((cp3 σ)) 4 (va_cpy (σ.2 4) (((cp3 σ)).2 4) 0 0 12)
def cp5 (σ : SS) : SS := S_sA ((cp4 σ)) 5 (va_cpy (σ.2 5) (((cp4 σ)).2 5) 0 0 12)
def cp6 (σ : SS) : SS := S_sA ((cp5 σ)) 6 (va_cpy (σ.2 6) (((cp5 σ)).2 6) 0 0 12)
def cp7 (σ : SS) : SS := S_sA ((cp6 σ)) 7 (va_cpy (σ.2 7) (((cp6 σ)).2 7) 0 0 12)
def cp8 (σ : SS) : SS := S_sA ((cp7 σ)) 8 (va_cpy (σ.2 8) (((cp7 σ)).2 8) 0 0 12)
def cp9 (σ : SS) : SS := S_sf ((cp8 σ)) 32 (σ.1 32)
def cp10 (σ : SS) : SS := S_sA ((cp9 σ)) 15 (va_cpy (σ.2 15) (((cp9 σ)).2 15) 0 0 72)
def cp11 (σ : SS) : SS := S_sA ((cp10 σ)) 16 (va_cpy (σ.2 16) (((cp10 σ)).2 16) 0 0 6)
def cp12 (σ : SS) : SS := S_sA ((cp11 σ)) 17 (va_cpy (σ.2 17) (((cp11 σ)).2 17) 0 0 6)
def cp13 (σ : SS) : SS := S_sf ((cp12 σ)) 30 (σ.1 30)
def cp14 (σ : SS) : SS := S_sA ((cp13 σ)) 10 (va_cpy (σ.2 10) (((cp13 σ)).2 10) 0 0 12)
def cp15 (σ : SS) : SS := S_sf ((cp14 σ)) 31 (σ.1 31)
def cp16 (σ : SS) : SS := S_sA ((cp15 σ)) 12 (va_cpy (σ.2 12) (((cp15 σ)).2 12) 0 0 12)
def cp17 (σ : SS) : SS := S_sf ((cp16 σ)) 13 (σ.1 13)
def cp18 (σ : SS) : SS := S_sf ((cp17 σ)) 14 (σ.1 14)
def cp19 (σ : SS) : SS := S_sf ((cp18 σ)) 15 (σ.1 15)
def cp20 (σ : SS) : SS := S_sf ((cp19 σ)) 16 (σ.1 16)
def cp21 (σ : SS) : SS := S_sf ((cp20 σ)) 17 (σ.1 17)
def cp22 (σ : SS) : SS := S_sf ((cp21 σ)) 18 (σ.1 18)
def cp23 (σ : SS) : SS := S_sf ((cp22 σ)) 19 (σ.1 19)
def cp24 (σ : SS) : SS := S_sf ((cp23 σ)) 20 (σ.1 20)
def cp25 (σ : SS) : SS := S_sf ((cp24 σ)) 21 (σ.1 21)
def cp26 (σ : SS) : SS := S_sf ((cp25 σ)) 22 (σ.1 22)
def cp27 (σ : SS) : SS := S_sf ((cp26 σ)) 23 (σ.1 23)
def cp28 (σ : SS) : SS := S_sf ((cp27 σ)) 25 (σ.1 25)
def cpS (σ : SS) : SS := cp28 σ
section CPY
variable {dA : Nat → ClassId} {b d u a : Nat} {sc sc0 : SC} {σ : SS} {x : va_E} {G G0 : GH}
theorem sG_gUin : sG dA b d u sc σ (gU G b x) = sG dA b d u sc σ G := by
  funext q
  unfold sG
  by_cases hq : q = b
  · rw [if_pos hq, if_pos hq]
  · rw [if_neg hq, if_neg hq, gU_n hq]
theorem sG_sc14 {v : Int32} : gU (sG dA b d u sc0 σ G0) (b + d + 14) (.inr (4, [.ref (b + d + 15), .ref (b + d + 16), .ref (b + d + 17), .int v, .ref sc.1])) = sG dA b d u sc (S_sf σ 32 v) G0 := by
  have h0 : ∀ i, i ≠ 14 → sE dA b d u sc0 σ i = sE dA b d u sc σ i := fun i hi => by
    unfold sE
    split <;> first | rfl | exact absurd rfl hi
  have h1 := sG_sf14 (dA := dA) (b := b) (d := d) (u := u) (sc := sc) (σ := σ) (G0 := G0) (v := v)
  rw [← h1]
  funext q
  by_cases hq : q = b + d + 14
  · subst hq
    rw [gU_s, gU_s]
  · rw [gU_n hq, gU_n hq]
    unfold sG
    by_cases hb : q = b
    · rw [if_pos hb, if_pos hb, h0 _ (by decide)]
    · rw [if_neg hb, if_neg hb]
      by_cases h2 : b + d < q ∧ q ≤ b + d + 17
      · rw [if_pos h2, if_pos h2, h0 _ (by omega)]
      · rw [if_neg h2, if_neg h2]
theorem j_copy_of {a b : Nat} {f h0 : Nat → Int32} : j_X2_copy_2 a b f h0 = some (va_cpy f h0 0 0 12) := by
  unfold j_X2_copy_2 cpF
  rw [if_neg (by decide)]
  rfl
theorem j_wbec_of {a o m1 s1 l1 m2 s2 l2 sc sc2 : Nat} {many mo : Int32} {fm fs fl gm gs gl : Nat → Int32} : j_X5_become a o m1 s1 l1 many sc fm fs fl m2 s2 l2 mo sc2 gm gs gl = some (mo, sc2, va_cpy gl fl 0 0 6, va_cpy gm fm 0 0 72, va_cpy gs fs 0 0 6) := by
  unfold j_X5_become cpF
  rw [if_neg (by decide), if_neg (by decide), if_neg (by decide)]
  rfl
end CPY
set_option maxHeartbeats 4000000 in
set_option maxRecDepth 100000 in
theorem w_X2_copy {l : Launch} {g : gNum} {L0 b d u sz : Nat} {sc0 sc : SC} {σ : SS} {G : GH} {fu : List Value} (hL : L0 ≤ sz) (hB0 : G b = some (.inr (1, sv b d u σ))) (hB : ∀ j, 1 ≤ j ∧ j ≤ 17 → G (b + d + j) = some (sE g.2.1 b d u sc σ j)) (hu : G u = some (.inr (2, fu))) (hsc : fu[3]? = some (.ref sc0.1)) (hz : σ.1 25 = 0 ∨ σ.1 25 = 1) : gMet l yX2_copy (ws_ yX2_copy cX2_copy 2 (some (.object "BlackoutStart$State"))) g.1 clX L0 (gK g) [.ref b] G sz 3 110 18 311 (fun v G' n => v = some (.ref sz) ∧ G' = sG g.2.1 sz 0 u sc (cpS σ) G ∧ n = sz + 18) := by
  refine gMet.of (own := RX2) (gK_ok g) (by decide +kernel) (Nat.le_of_ble_eq_true rfl) rfl ?_
  intro p e R s m args below meth c A Q ls H hF hQ hin hG hl
  have hx := hF.1.1
  have hb := hF.1.2.1
  have hts := hF.1.2.2.2.2
  have hl : lv_has ls 2 [(0, .ref b)] := hl
  have hbs : b + d + 17 < sz := hG.lt (hB 17 (by decide))
  have hus : u < sz := hG.lt hu
  refine g_new hF hG in_X2 tyX2 tyX2_ok q957 q131 q83 (ci := 1) rfl (fs := [Value.null, Value.null, Value.null, Value.null, Value.null, Value.null, Value.null, Value.null, Value.null, Value.null, Value.null, Value.null, Value.null, .int 0, .int 0, .int 0, .int 0, .int 0, .int 0, .int 0, .int 0, .int 0, .int 0, .int 0, .int 0, .int 0]) (by decide) (by rw [hF.2.2.2.2]; exact Nat.le_of_ble_eq_true rfl) (by rw [hF.2.2.2.2]; exact Nat.le_of_ble_eq_true rfl) dX2_copy_0 (fun H hG => ?_)
  refine lv_dup hx hb dX2_copy_3 rfl ?_
  refine lv_aload_n hx hb dX2_copy_4 rfl (lv_at hl 0 rfl) ?_
  refine g_get hF hG ((gU_n (by omega)).trans hB0) (C := RX2) (T := TX2) (N := 26) rfl in_X2 0 (by decide) q589 (fun _ h => h) (v := .ref u) rfl dX2_copy_5 ?_
  refine g_callI hF hG hl (w_X2_init (g := g) (l := l) (L0 := L0) (b := sz) (d := 0) (u := u) (sc := sc0) (fu := fu) hL gU_s ((gU_n (by omega)).trans hu) (gO_lo hus) (by omega) hsc) (cwI 1 hF.1.2.2.2.2 (lw_meth q541) rfl rfl rfl (hF.1.2.2.2.2 _ q83) (hF.1.2.2.2.2 _ q958) (hF.1.2.2.2.2 _ q540) rfl (by decide +kernel) (g_room hF (Nat.le_of_ble_eq_true rfl) (Nat.le_of_ble_eq_true rfl))) (As := [.ref u]) rfl rfl (Nat.le_of_ble_eq_true rfl) dX2_copy_8 ⟨(by rw [hF.2.2.2.2]; exact Nat.le_of_ble_eq_true rfl), (by rw [hF.2.2.2.2]; exact Nat.le_of_ble_eq_true rfl)⟩ (fun v0 G1 n1 H locs hR hG => ?_)
  obtain ⟨rfl, hg1, hn1⟩ := hR
  rw [hg1, hn1, sG_gUin] at hG
  have hG : gJK g L0 A s.heap (sG g.2.1 sz 0 u sc0 zS G) (sz + 18) H locs := hG
  refine lv_astore_n hx hb dX2_copy_11 rfl hl (Nat.le_of_ble_eq_true rfl) (lv' := [(1, .ref sz), (0, .ref b)]) rfl (fun ls hl => ?_)
  refine lv_aload_n hx hb dX2_copy_12 rfl (lv_at hl 1 rfl) ?_
  refine g_get hF hG ((sG_out (gO_lo (by omega))).trans hB0) (C := RX2) (T := TX2) (N := 26) rfl in_X2 1 (by decide) q591 (fun _ h => h) (v := .ref (b + d + 1)) rfl dX2_copy_13 ?_
  refine lv_aload_n hx hb dX2_copy_16 rfl (lv_at hl 0 rfl) ?_
  refine g_get hF hG sG_0 (C := RX2) (T := TX2) (N := 26) rfl in_X2 1 (by decide) q591 (fun _ h => h) (v := .ref (sz + 0 + 1)) rfl dX2_copy_17 ?_
  refine g_callS hF hG hl (w_X2_copy_2 (g := g) (l := l) (L0 := L0) (sz := sz + 18) (a := b + d + 1) (b := sz + 0 + 1) ((sG_out (gO_lo (by omega))).trans (hB 1 (by decide))) (sG_arr (by decide)) (by omega) (by omega) j_copy_of) (va_cwS 2 hF.1.2.2.2.2 (lw_S q959 q960 q83 q961) rfl rfl rfl (by decide +kernel) (g_room hF (Nat.le_of_ble_eq_true rfl) (Nat.le_of_ble_eq_true rfl))) rfl rfl (Nat.le_of_ble_eq_true rfl) dX2_copy_20 ⟨(by rw [hF.2.2.2.2]; exact Nat.le_of_ble_eq_true rfl), (by rw [hF.2.2.2.2]; exact Nat.le_of_ble_eq_true rfl)⟩ (fun v0 G1 n1 H locs hR hG => ?_)
  obtain ⟨rfl, hg1, hn1⟩ := hR
  rw [hg1, hn1] at hG
  rw [show gU (sG g.2.1 sz 0 u sc0 zS G) (sz + 0 + 1) (.inl (g.2.1 0, 12, .inl (va_cpy (σ.2 1) (zS.2 1) 0 0 12))) = sG g.2.1 sz 0 u sc0 (cp1 σ) G from sG_sA (by decide)] at hG
  have hG : gJK g L0 A s.heap (sG g.2.1 sz 0 u sc0 (cp1 σ) G) (sz + 18) H locs := hG
  refine lv_aload_n hx hb dX2_copy_23 rfl (lv_at hl 1 rfl) ?_
  refine g_get hF hG ((sG_out (gO_lo (by omega))).trans hB0) (C := RX2) (T := TX2) (N := 26) rfl in_X2 2 (by decide) q593 (fun _ h => h) (v := .ref (b + d + 2)) rfl dX2_copy_24 ?_
  refine lv_aload_n hx hb dX2_copy_27 rfl (lv_at hl 0 rfl) ?_
  refine g_get hF hG sG_0 (C := RX2) (T := TX2) (N := 26) rfl in_X2 2 (by decide) q593 (fun _ h => h) (v := .ref (sz + 0 + 2)) rfl dX2_copy_28 ?_
  refine g_callS hF hG hl (w_X2_copy_2 (g := g) (l := l) (L0 := L0) (sz := sz + 18) (a := b + d + 2) (b := sz + 0 + 2) ((sG_out (gO_lo (by omega))).trans (hB 2 (by decide))) (sG_arr (by decide)) (by omega) (by omega) j_copy_of) (va_cwS 2 hF.1.2.2.2.2 (lw_S q959 q960 q83 q961) rfl rfl rfl (by decide +kernel) (g_room hF (Nat.le_of_ble_eq_true rfl) (Nat.le_of_ble_eq_true rfl))) rfl rfl (Nat.le_of_ble_eq_true rfl) dX2_copy_31 ⟨(by rw [hF.2.2.2.2]; exact Nat.le_of_ble_eq_true rfl), (by rw [hF.2.2.2.2]; exact Nat.le_of_ble_eq_true rfl)⟩ (fun v0 G1 n1 H locs hR hG => ?_)
  obtain ⟨rfl, hg1, hn1⟩ := hR
  rw [hg1, hn1] at hG
  rw [show gU (sG g.2.1 sz 0 u sc0 (cp1 σ) G) (sz + 0 + 2) (.inl (g.2.1 0, 12, .inl (va_cpy (σ.2 2) ((cp1 σ).2 2) 0 0 12))) = sG g.2.1 sz 0 u sc0 (cp2 σ) G from sG_sA (by decide)] at hG
  have hG : gJK g L0 A s.heap (sG g.2.1 sz 0 u sc0 (cp2 σ) G) (sz + 18) H locs := hG
  refine lv_aload_n hx hb dX2_copy_34 rfl (lv_at hl 1 rfl) ?_
  refine g_get hF hG ((sG_out (gO_lo (by omega))).trans hB0) (C := RX2) (T := TX2) (N := 26) rfl in_X2 3 (by decide) q595 (fun _ h => h) (v := .ref (b + d + 3)) rfl dX2_copy_35 ?_
  refine lv_aload_n hx hb dX2_copy_38 rfl (lv_at hl 0 rfl) ?_
  refine g_get hF hG sG_0 (C := RX2) (T := TX2) (N := 26) rfl in_X2 3 (by decide) q595 (fun _ h => h) (v := .ref (sz + 0 + 3)) rfl dX2_copy_39 ?_
  refine g_callS hF hG hl (w_X2_copy_2 (g := g) (l := l) (L0 := L0) (sz := sz + 18) (a := b + d + 3) (b := sz + 0 + 3) ((sG_out (gO_lo (by omega))).trans (hB 3 (by decide))) (sG_arr (by decide)) (by omega) (by omega) j_copy_of) (va_cwS 2 hF.1.2.2.2.2 (lw_S q959 q960 q83 q961) rfl rfl rfl (by decide +kernel) (g_room hF (Nat.le_of_ble_eq_true rfl) (Nat.le_of_ble_eq_true rfl))) rfl rfl (Nat.le_of_ble_eq_true rfl) dX2_copy_42 ⟨(by rw [hF.2.2.2.2]; exact Nat.le_of_ble_eq_true rfl), (by rw [hF.2.2.2.2]; exact Nat.le_of_ble_eq_true rfl)⟩ (fun v0 G1 n1 H locs hR hG => ?_)
  obtain ⟨rfl, hg1, hn1⟩ := hR
  rw [hg1, hn1] at hG
  rw [show gU (sG g.2.1 sz 0 u sc0 (cp2 σ) G) (sz + 0 + 3) (.inl (g.2.1 0, 12, .inl (va_cpy (σ.2 3) ((cp2 σ).2 3) 0 0 12))) = sG g.2.1 sz 0 u sc0 (cp3 σ) G from sG_sA (by decide)] at hG
  have hG : gJK g L0 A s.heap (sG g.2.1 sz 0 u sc0 (cp3 σ) G) (sz + 18) H locs := hG
  refine lv_aload_n hx hb dX2_copy_45 rfl (lv_at hl 1 rfl) ?_
  refine g_get hF hG ((sG_out (gO_lo (by omega))).trans hB0) (C := RX2) (T := TX2) (N := 26) rfl in_X2 4 (by decide) q597 (fun _ h => h) (v := .ref (b + d + 4)) rfl dX2_copy_46 ?_
  refine lv_aload_n hx hb dX2_copy_49 rfl (lv_at hl 0 rfl) ?_
  refine g_get hF hG sG_0 (C := RX2) (T := TX2) (N := 26) rfl in_X2 4 (by decide) q597 (fun _ h => h) (v := .ref (sz + 0 + 4)) rfl dX2_copy_50 ?_
  refine g_callS hF hG hl (w_X2_copy_2 (g := g) (l := l) (L0 := L0) (sz := sz + 18) (a := b + d + 4) (b := sz + 0 + 4) ((sG_out (gO_lo (by omega))).trans (hB 4 (by decide))) (sG_arr (by decide)) (by omega) (by omega) j_copy_of) (va_cwS 2 hF.1.2.2.2.2 (lw_S q959 q960 q83 q961) rfl rfl rfl (by decide +kernel) (g_room hF (Nat.le_of_ble_eq_true rfl) (Nat.le_of_ble_eq_true rfl))) rfl rfl (Nat.le_of_ble_eq_true rfl) dX2_copy_53 ⟨(by rw [hF.2.2.2.2]; exact Nat.le_of_ble_eq_true rfl), (by rw [hF.2.2.2.2]; exact Nat.le_of_ble_eq_true rfl)⟩ (fun v0 G1 n1 H locs hR hG => ?_)
  obtain ⟨rfl, hg1, hn1⟩ := hR
  rw [hg1, hn1] at hG
  rw [show gU (sG g.2.1 sz 0 u sc0 (cp3 σ) G) (sz + 0 + 4) (.inl (g.2.1 0, 12, .inl (va_cpy (σ.2 4) ((cp3 σ).2 4) 0 0 12))) = sG g.2.1 sz 0 u sc0 (cp4 σ) G from sG_sA (by decide)] at hG
  have hG : gJK g L0 A s.heap (sG g.2.1 sz 0 u sc0 (cp4 σ) G) (sz + 18) H locs := hG
  refine lv_aload_n hx hb dX2_copy_56 rfl (lv_at hl 1 rfl) ?_
  refine g_get hF hG ((sG_out (gO_lo (by omega))).trans hB0) (C := RX2) (T := TX2) (N := 26) rfl in_X2 5 (by decide) q599 (fun _ h => h) (v := .ref (b + d + 5)) rfl dX2_copy_57 ?_
  refine lv_aload_n hx hb dX2_copy_60 rfl (lv_at hl 0 rfl) ?_
  refine g_get hF hG sG_0 (C := RX2) (T := TX2) (N := 26) rfl in_X2 5 (by decide) q599 (fun _ h => h) (v := .ref (sz + 0 + 5)) rfl dX2_copy_61 ?_
  refine g_callS hF hG hl (w_X2_copy_2 (g := g) (l := l) (L0 := L0) (sz := sz + 18) (a := b + d + 5) (b := sz + 0 + 5) ((sG_out (gO_lo (by omega))).trans (hB 5 (by decide))) (sG_arr (by decide)) (by omega) (by omega) j_copy_of) (va_cwS 2 hF.1.2.2.2.2 (lw_S q959 q960 q83 q961) rfl rfl rfl (by decide +kernel) (g_room hF (Nat.le_of_ble_eq_true rfl) (Nat.le_of_ble_eq_true rfl))) rfl rfl (Nat.le_of_ble_eq_true rfl) dX2_copy_64 ⟨(by rw [hF.2.2.2.2]; exact Nat.le_of_ble_eq_true rfl), (by rw [hF.2.2.2.2]; exact Nat.le_of_ble_eq_true rfl)⟩ (fun v0 G1 n1 H locs hR hG => ?_)
  obtain ⟨rfl, hg1, hn1⟩ := hR
  rw [hg1, hn1] at hG
  rw [show gU (sG g.2.1 sz 0 u sc0 (cp4 σ) G) (sz + 0 + 5) (.inl (g.2.1 0, 12, .inl (va_cpy (σ.2 5) ((cp4 σ).2 5) 0 0 12))) = sG g.2.1 sz 0 u sc0 (cp5 σ) G from sG_sA (by decide)] at hG
  have hG : gJK g L0 A s.heap (sG g.2.1 sz 0 u sc0 (cp5 σ) G) (sz + 18) H locs := hG
  refine lv_aload_n hx hb dX2_copy_67 rfl (lv_at hl 1 rfl) ?_
  refine g_get hF hG ((sG_out (gO_lo (by omega))).trans hB0) (C := RX2) (T := TX2) (N := 26) rfl in_X2 6 (by decide) q600 (fun _ h => h) (v := .ref (b + d + 6)) rfl dX2_copy_68 ?_
  refine lv_aload_n hx hb dX2_copy_71 rfl (lv_at hl 0 rfl) ?_
  refine g_get hF hG sG_0 (C := RX2) (T := TX2) (N := 26) rfl in_X2 6 (by decide) q600 (fun _ h => h) (v := .ref (sz + 0 + 6)) rfl dX2_copy_72 ?_
  refine g_callS hF hG hl (w_X2_copy_2 (g := g) (l := l) (L0 := L0) (sz := sz + 18) (a := b + d + 6) (b := sz + 0 + 6) ((sG_out (gO_lo (by omega))).trans (hB 6 (by decide))) (sG_arr (by decide)) (by omega) (by omega) j_copy_of) (va_cwS 2 hF.1.2.2.2.2 (lw_S q959 q960 q83 q961) rfl rfl rfl (by decide +kernel) (g_room hF (Nat.le_of_ble_eq_true rfl) (Nat.le_of_ble_eq_true rfl))) rfl rfl (Nat.le_of_ble_eq_true rfl) dX2_copy_75 ⟨(by rw [hF.2.2.2.2]; exact Nat.le_of_ble_eq_true rfl), (by rw [hF.2.2.2.2]; exact Nat.le_of_ble_eq_true rfl)⟩ (fun v0 G1 n1 H locs hR hG => ?_)
  obtain ⟨rfl, hg1, hn1⟩ := hR
  rw [hg1, hn1] at hG
  rw [show gU (sG g.2.1 sz 0 u sc0 (cp5 σ) G) (sz + 0 + 6) (.inl (g.2.1 0, 12, .inl (va_cpy (σ.2 6) ((cp5 σ).2 6) 0 0 12))) = sG g.2.1 sz 0 u sc0 (cp6 σ) G from sG_sA (by decide)] at hG
  have hG : gJK g L0 A s.heap (sG g.2.1 sz 0 u sc0 (cp6 σ) G) (sz + 18) H locs := hG
  refine lv_aload_n hx hb dX2_copy_78 rfl (lv_at hl 1 rfl) ?_
  refine g_get hF hG ((sG_out (gO_lo (by omega))).trans hB0) (C := RX2) (T := TX2) (N := 26) rfl in_X2 7 (by decide) q602 (fun _ h => h) (v := .ref (b + d + 7)) rfl dX2_copy_79 ?_
  refine lv_aload_n hx hb dX2_copy_82 rfl (lv_at hl 0 rfl) ?_
  refine g_get hF hG sG_0 (C := RX2) (T := TX2) (N := 26) rfl in_X2 7 (by decide) q602 (fun _ h => h) (v := .ref (sz + 0 + 7)) rfl dX2_copy_83 ?_
  refine g_callS hF hG hl (w_X2_copy_2 (g := g) (l := l) (L0 := L0) (sz := sz + 18) (a := b + d + 7) (b := sz + 0 + 7) ((sG_out (gO_lo (by omega))).trans (hB 7 (by decide))) (sG_arr (by decide)) (by omega) (by omega) j_copy_of) (va_cwS 2 hF.1.2.2.2.2 (lw_S q959 q960 q83 q961) rfl rfl rfl (by decide +kernel) (g_room hF (Nat.le_of_ble_eq_true rfl) (Nat.le_of_ble_eq_true rfl))) rfl rfl (Nat.le_of_ble_eq_true rfl) dX2_copy_86 ⟨(by rw [hF.2.2.2.2]; exact Nat.le_of_ble_eq_true rfl), (by rw [hF.2.2.2.2]; exact Nat.le_of_ble_eq_true rfl)⟩ (fun v0 G1 n1 H locs hR hG => ?_)
  obtain ⟨rfl, hg1, hn1⟩ := hR
  rw [hg1, hn1] at hG
  rw [show gU (sG g.2.1 sz 0 u sc0 (cp6 σ) G) (sz + 0 + 7) (.inl (g.2.1 0, 12, .inl (va_cpy (σ.2 7) ((cp6 σ).2 7) 0 0 12))) = sG g.2.1 sz 0 u sc0 (cp7 σ) G from sG_sA (by decide)] at hG
  have hG : gJK g L0 A s.heap (sG g.2.1 sz 0 u sc0 (cp7 σ) G) (sz + 18) H locs := hG
  refine lv_aload_n hx hb dX2_copy_89 rfl (lv_at hl 1 rfl) ?_
  refine g_get hF hG ((sG_out (gO_lo (by omega))).trans hB0) (C := RX2) (T := TX2) (N := 26) rfl in_X2 8 (by decide) q604 (fun _ h => h) (v := .ref (b + d + 8)) rfl dX2_copy_90 ?_
  refine lv_aload_n hx hb dX2_copy_93 rfl (lv_at hl 0 rfl) ?_
  refine g_get hF hG sG_0 (C := RX2) (T := TX2) (N := 26) rfl in_X2 8 (by decide) q604 (fun _ h => h) (v := .ref (sz + 0 + 8)) rfl dX2_copy_94 ?_
  refine g_callS hF hG hl (w_X2_copy_2 (g := g) (l := l) (L0 := L0) (sz := sz + 18) (a := b + d + 8) (b := sz + 0 + 8) ((sG_out (gO_lo (by omega))).trans (hB 8 (by decide))) (sG_arr (by decide)) (by omega) (by omega) j_copy_of) (va_cwS 2 hF.1.2.2.2.2 (lw_S q959 q960 q83 q961) rfl rfl rfl (by decide +kernel) (g_room hF (Nat.le_of_ble_eq_true rfl) (Nat.le_of_ble_eq_true rfl))) rfl rfl (Nat.le_of_ble_eq_true rfl) dX2_copy_97 ⟨(by rw [hF.2.2.2.2]; exact Nat.le_of_ble_eq_true rfl), (by rw [hF.2.2.2.2]; exact Nat.le_of_ble_eq_true rfl)⟩ (fun v0 G1 n1 H locs hR hG => ?_)
  obtain ⟨rfl, hg1, hn1⟩ := hR
  rw [hg1, hn1] at hG
  rw [show gU (sG g.2.1 sz 0 u sc0 (cp7 σ) G) (sz + 0 + 8) (.inl (g.2.1 0, 12, .inl (va_cpy (σ.2 8) ((cp7 σ).2 8) 0 0 12))) = sG g.2.1 sz 0 u sc0 (cp8 σ) G from sG_sA (by decide)] at hG
  have hG : gJK g L0 A s.heap (sG g.2.1 sz 0 u sc0 (cp8 σ) G) (sz + 18) H locs := hG
  refine lv_aload_n hx hb dX2_copy_100 rfl (lv_at hl 0 rfl) ?_
  refine g_get hF hG sG_0 (C := RX2) (T := TX2) (N := 26) rfl in_X2 9 (by decide) q606 (fun _ h => h) (v := .ref (sz + 0 + 14)) rfl dX2_copy_101 ?_
  refine lv_aload_n hx hb dX2_copy_104 rfl (lv_at hl 1 rfl) ?_
  refine g_get hF hG ((sG_out (gO_lo (by omega))).trans hB0) (C := RX2) (T := TX2) (N := 26) rfl in_X2 9 (by decide) q606 (fun _ h => h) (v := .ref (b + d + 14)) rfl dX2_copy_105 ?_
  refine g_callV hF hG hl sG_14 (C := RX5) (T := TX5) (N := 5) rfl (w_X5_become (g := g) (l := l) (L0 := L0) (sz := sz + 18) (a := sz + 0 + 14) (o := b + d + 14) (m1 := sz + 0 + 15) (s1 := sz + 0 + 16) (l1 := sz + 0 + 17) (m2 := b + d + 15) (s2 := b + d + 16) (l2 := b + d + 17) sG_14 (sG_arr (by decide)) (sG_arr (by decide)) (sG_arr (by decide)) ((sG_out (gO_lo (by omega))).trans (hB 14 (by decide))) ((sG_out (gO_lo (by omega))).trans (hB 15 (by decide))) ((sG_out (gO_lo (by omega))).trans (hB 16 (by decide))) ((sG_out (gO_lo (by omega))).trans (hB 17 (by decide))) (by omega) (by omega) (by omega) (by omega) (by omega) (by omega) (by omega) (by omega) (by omega) (by omega) (by omega) (by omega) (by omega) (by omega) (by omega) (by omega) (by omega) j_wbec_of) (cwV 1 hF.1.2.2.2.2 (lw_V q963 q964 q965 q105 q966) rfl rfl rfl (by decide +kernel) (g_room hF (Nat.le_of_ble_eq_true rfl) (Nat.le_of_ble_eq_true rfl))) rfl rfl (Nat.le_of_ble_eq_true rfl) dX2_copy_108 ⟨(by rw [hF.2.2.2.2]; exact Nat.le_of_ble_eq_true rfl), (by rw [hF.2.2.2.2]; exact Nat.le_of_ble_eq_true rfl)⟩ (fun v0 G1 n1 H locs hR hG => ?_)
  obtain ⟨rfl, hg1, hn1⟩ := hR
  rw [hg1, hn1] at hG
  rw [show gU (sG g.2.1 sz 0 u sc0 (cp8 σ) G) (sz + 0 + 14) (.inr (4, [.ref (sz + 0 + 15), .ref (sz + 0 + 16), .ref (sz + 0 + 17), .int (σ.1 32), .ref sc.1])) = sG g.2.1 sz 0 u sc (cp9 σ) G from sG_sc14] at hG
  rw [show gU (sG g.2.1 sz 0 u sc (cp9 σ) G) (sz + 0 + 15) (.inl (g.2.1 0, 72, .inl (va_cpy (σ.2 15) ((cp8 σ).2 15) 0 0 72))) = sG g.2.1 sz 0 u sc (cp10 σ) G from sG_sA (by decide)] at hG
  rw [show gU (sG g.2.1 sz 0 u sc (cp10 σ) G) (sz + 0 + 16) (.inl (g.2.1 0, 6, .inl (va_cpy (σ.2 16) ((cp8 σ).2 16) 0 0 6))) = sG g.2.1 sz 0 u sc (cp11 σ) G from sG_sA (by decide)] at hG
  rw [show gU (sG g.2.1 sz 0 u sc (cp11 σ) G) (sz + 0 + 17) (.inl (g.2.1 0, 6, .inl (va_cpy (σ.2 17) ((cp8 σ).2 17) 0 0 6))) = sG g.2.1 sz 0 u sc (cp12 σ) G from sG_sA (by decide)] at hG
  have hG : gJK g L0 A s.heap (sG g.2.1 sz 0 u sc (cp12 σ) G) (sz + 18) H locs := hG
  refine lv_aload_n hx hb dX2_copy_111 rfl (lv_at hl 0 rfl) ?_
  refine g_get hF hG sG_0 (C := RX2) (T := TX2) (N := 26) rfl in_X2 10 (by decide) q608 (fun _ h => h) (v := .ref (sz + 0 + 9)) rfl dX2_copy_112 ?_
  refine lv_aload_n hx hb dX2_copy_115 rfl (lv_at hl 1 rfl) ?_
  refine g_get hF hG ((sG_out (gO_lo (by omega))).trans hB0) (C := RX2) (T := TX2) (N := 26) rfl in_X2 10 (by decide) q608 (fun _ h => h) (v := .ref (b + d + 9)) rfl dX2_copy_116 ?_
  refine g_callV hF hG hl sG_9 (C := RX4) (T := TX4) (N := 2) rfl (w_X4_become (g := g) (l := l) (L0 := L0) (sz := sz + 18) (a := sz + 0 + 9) (o := b + d + 9) (ra := sz + 0 + 10) (ro := b + d + 10) sG_9 (sG_arr (by decide)) ((sG_out (gO_lo (by omega))).trans (hB 9 (by decide))) ((sG_out (gO_lo (by omega))).trans (hB 10 (by decide))) (by omega) (by omega) (by omega) (by omega) j_become_of) (cwV 1 hF.1.2.2.2.2 (lw_V q968 q969 q970 q104 q971) rfl rfl rfl (by decide +kernel) (g_room hF (Nat.le_of_ble_eq_true rfl) (Nat.le_of_ble_eq_true rfl))) rfl rfl (Nat.le_of_ble_eq_true rfl) dX2_copy_119 ⟨(by rw [hF.2.2.2.2]; exact Nat.le_of_ble_eq_true rfl), (by rw [hF.2.2.2.2]; exact Nat.le_of_ble_eq_true rfl)⟩ (fun v0 G1 n1 H locs hR hG => ?_)
  obtain ⟨rfl, hg1, hn1⟩ := hR
  rw [hg1, hn1] at hG
  rw [show gU (sG g.2.1 sz 0 u sc (cp12 σ) G) (sz + 0 + 9) (.inr (3, [.ref (sz + 0 + 10), .int (σ.1 30)])) = sG g.2.1 sz 0 u sc (cp13 σ) G from sG_sf9] at hG
  rw [show gU (sG g.2.1 sz 0 u sc (cp13 σ) G) (sz + 0 + 10) (.inl (g.2.1 0, 12, .inl (va_cpy (σ.2 10) ((cp12 σ).2 10) 0 0 12))) = sG g.2.1 sz 0 u sc (cp14 σ) G from sG_sA (by decide)] at hG
  have hG : gJK g L0 A s.heap (sG g.2.1 sz 0 u sc (cp14 σ) G) (sz + 18) H locs := hG
  refine lv_aload_n hx hb dX2_copy_122 rfl (lv_at hl 0 rfl) ?_
  refine g_get hF hG sG_0 (C := RX2) (T := TX2) (N := 26) rfl in_X2 11 (by decide) q610 (fun _ h => h) (v := .ref (sz + 0 + 11)) rfl dX2_copy_123 ?_
  refine lv_aload_n hx hb dX2_copy_126 rfl (lv_at hl 1 rfl) ?_
  refine g_get hF hG ((sG_out (gO_lo (by omega))).trans hB0) (C := RX2) (T := TX2) (N := 26) rfl in_X2 11 (by decide) q610 (fun _ h => h) (v := .ref (b + d + 11)) rfl dX2_copy_127 ?_
  refine g_callV hF hG hl sG_11 (C := RX4) (T := TX4) (N := 2) rfl (w_X4_become (g := g) (l := l) (L0 := L0) (sz := sz + 18) (a := sz + 0 + 11) (o := b + d + 11) (ra := sz + 0 + 12) (ro := b + d + 12) sG_11 (sG_arr (by decide)) ((sG_out (gO_lo (by omega))).trans (hB 11 (by decide))) ((sG_out (gO_lo (by omega))).trans (hB 12 (by decide))) (by omega) (by omega) (by omega) (by omega) j_become_of) (cwV 1 hF.1.2.2.2.2 (lw_V q968 q969 q970 q104 q971) rfl rfl rfl (by decide +kernel) (g_room hF (Nat.le_of_ble_eq_true rfl) (Nat.le_of_ble_eq_true rfl))) rfl rfl (Nat.le_of_ble_eq_true rfl) dX2_copy_130 ⟨(by rw [hF.2.2.2.2]; exact Nat.le_of_ble_eq_true rfl), (by rw [hF.2.2.2.2]; exact Nat.le_of_ble_eq_true rfl)⟩ (fun v0 G1 n1 H locs hR hG => ?_)
  obtain ⟨rfl, hg1, hn1⟩ := hR
  rw [hg1, hn1] at hG
  rw [show gU (sG g.2.1 sz 0 u sc (cp14 σ) G) (sz + 0 + 11) (.inr (3, [.ref (sz + 0 + 12), .int (σ.1 31)])) = sG g.2.1 sz 0 u sc (cp15 σ) G from sG_sf11] at hG
  rw [show gU (sG g.2.1 sz 0 u sc (cp15 σ) G) (sz + 0 + 12) (.inl (g.2.1 0, 12, .inl (va_cpy (σ.2 12) ((cp14 σ).2 12) 0 0 12))) = sG g.2.1 sz 0 u sc (cp16 σ) G from sG_sA (by decide)] at hG
  have hG : gJK g L0 A s.heap (sG g.2.1 sz 0 u sc (cp16 σ) G) (sz + 18) H locs := hG
  refine lv_aload_n hx hb dX2_copy_133 rfl (lv_at hl 0 rfl) ?_
  refine lv_aload_n hx hb dX2_copy_134 rfl (lv_at hl 1 rfl) ?_
  refine g_get hF hG ((sG_out (gO_lo (by omega))).trans hB0) (C := RX2) (T := TX2) (N := 26) rfl in_X2 13 (by decide) q612 (fun _ h => h) (v := .int (σ.1 13)) rfl dX2_copy_135 ?_
  refine g_put hF hG sG_0 hL (C := RX2) (T := TX2) (N := 26) rfl in_X2 tyX2 tyX2_ok nmX2 13 (by decide) q612 (fun _ h => h) rfl (by first | rfl | decide) rfl (Nat.le_of_ble_eq_true rfl) dX2_copy_138 (fun H locs hG => ?_)
  rw [sG_sf0 (by decide)] at hG
  have hG : gJK g L0 A s.heap (sG g.2.1 sz 0 u sc (cp17 σ) G) (sz + 18) H locs := hG
  refine lv_aload_n hx hb dX2_copy_141 rfl (lv_at hl 0 rfl) ?_
  refine lv_aload_n hx hb dX2_copy_142 rfl (lv_at hl 1 rfl) ?_
  refine g_get hF hG ((sG_out (gO_lo (by omega))).trans hB0) (C := RX2) (T := TX2) (N := 26) rfl in_X2 14 (by decide) q614 (fun _ h => h) (v := .int (σ.1 14)) rfl dX2_copy_143 ?_
  refine g_put hF hG sG_0 hL (C := RX2) (T := TX2) (N := 26) rfl in_X2 tyX2 tyX2_ok nmX2 14 (by decide) q614 (fun _ h => h) rfl (by first | rfl | decide) rfl (Nat.le_of_ble_eq_true rfl) dX2_copy_146 (fun H locs hG => ?_)
  rw [sG_sf0 (by decide)] at hG
  have hG : gJK g L0 A s.heap (sG g.2.1 sz 0 u sc (cp18 σ) G) (sz + 18) H locs := hG
  refine lv_aload_n hx hb dX2_copy_149 rfl (lv_at hl 0 rfl) ?_
  refine lv_aload_n hx hb dX2_copy_150 rfl (lv_at hl 1 rfl) ?_
  refine g_get hF hG ((sG_out (gO_lo (by omega))).trans hB0) (C := RX2) (T := TX2) (N := 26) rfl in_X2 15 (by decide) q615 (fun _ h => h) (v := .int (σ.1 15)) rfl dX2_copy_151 ?_
  refine g_put hF hG sG_0 hL (C := RX2) (T := TX2) (N := 26) rfl in_X2 tyX2 tyX2_ok nmX2 15 (by decide) q615 (fun _ h => h) rfl (by first | rfl | decide) rfl (Nat.le_of_ble_eq_true rfl) dX2_copy_154 (fun H locs hG => ?_)
  rw [sG_sf0 (by decide)] at hG
  have hG : gJK g L0 A s.heap (sG g.2.1 sz 0 u sc (cp19 σ) G) (sz + 18) H locs := hG
  refine lv_aload_n hx hb dX2_copy_157 rfl (lv_at hl 0 rfl) ?_
  refine lv_aload_n hx hb dX2_copy_158 rfl (lv_at hl 1 rfl) ?_
  refine g_get hF hG ((sG_out (gO_lo (by omega))).trans hB0) (C := RX2) (T := TX2) (N := 26) rfl in_X2 16 (by decide) q616 (fun _ h => h) (v := .int (σ.1 16)) rfl dX2_copy_159 ?_
  refine g_put hF hG sG_0 hL (C := RX2) (T := TX2) (N := 26) rfl in_X2 tyX2 tyX2_ok nmX2 16 (by decide) q616 (fun _ h => h) rfl (by first | rfl | decide) rfl (Nat.le_of_ble_eq_true rfl) dX2_copy_162 (fun H locs hG => ?_)
  rw [sG_sf0 (by decide)] at hG
  have hG : gJK g L0 A s.heap (sG g.2.1 sz 0 u sc (cp20 σ) G) (sz + 18) H locs := hG
  refine lv_aload_n hx hb dX2_copy_165 rfl (lv_at hl 0 rfl) ?_
  refine lv_aload_n hx hb dX2_copy_166 rfl (lv_at hl 1 rfl) ?_
  refine g_get hF hG ((sG_out (gO_lo (by omega))).trans hB0) (C := RX2) (T := TX2) (N := 26) rfl in_X2 17 (by decide) q618 (fun _ h => h) (v := .int (σ.1 17)) rfl dX2_copy_167 ?_
  refine g_put hF hG sG_0 hL (C := RX2) (T := TX2) (N := 26) rfl in_X2 tyX2 tyX2_ok nmX2 17 (by decide) q618 (fun _ h => h) rfl (by first | rfl | decide) rfl (Nat.le_of_ble_eq_true rfl) dX2_copy_170 (fun H locs hG => ?_)
  rw [sG_sf0 (by decide)] at hG
  have hG : gJK g L0 A s.heap (sG g.2.1 sz 0 u sc (cp21 σ) G) (sz + 18) H locs := hG
  refine lv_aload_n hx hb dX2_copy_173 rfl (lv_at hl 0 rfl) ?_
  refine lv_aload_n hx hb dX2_copy_174 rfl (lv_at hl 1 rfl) ?_
  refine g_get hF hG ((sG_out (gO_lo (by omega))).trans hB0) (C := RX2) (T := TX2) (N := 26) rfl in_X2 18 (by decide) q620 (fun _ h => h) (v := .int (σ.1 18)) rfl dX2_copy_175 ?_
  refine g_put hF hG sG_0 hL (C := RX2) (T := TX2) (N := 26) rfl in_X2 tyX2 tyX2_ok nmX2 18 (by decide) q620 (fun _ h => h) rfl (by first | rfl | decide) rfl (Nat.le_of_ble_eq_true rfl) dX2_copy_178 (fun H locs hG => ?_)
  rw [sG_sf0 (by decide)] at hG
  have hG : gJK g L0 A s.heap (sG g.2.1 sz 0 u sc (cp22 σ) G) (sz + 18) H locs := hG
  refine lv_aload_n hx hb dX2_copy_181 rfl (lv_at hl 0 rfl) ?_
  refine lv_aload_n hx hb dX2_copy_182 rfl (lv_at hl 1 rfl) ?_
  refine g_get hF hG ((sG_out (gO_lo (by omega))).trans hB0) (C := RX2) (T := TX2) (N := 26) rfl in_X2 19 (by decide) q622 (fun _ h => h) (v := .int (σ.1 19)) rfl dX2_copy_183 ?_
  refine g_put hF hG sG_0 hL (C := RX2) (T := TX2) (N := 26) rfl in_X2 tyX2 tyX2_ok nmX2 19 (by decide) q622 (fun _ h => h) rfl (by first | rfl | decide) rfl (Nat.le_of_ble_eq_true rfl) dX2_copy_186 (fun H locs hG => ?_)
  rw [sG_sf0 (by decide)] at hG
  have hG : gJK g L0 A s.heap (sG g.2.1 sz 0 u sc (cp23 σ) G) (sz + 18) H locs := hG
  refine lv_aload_n hx hb dX2_copy_189 rfl (lv_at hl 0 rfl) ?_
  refine lv_aload_n hx hb dX2_copy_190 rfl (lv_at hl 1 rfl) ?_
  refine g_get hF hG ((sG_out (gO_lo (by omega))).trans hB0) (C := RX2) (T := TX2) (N := 26) rfl in_X2 20 (by decide) q624 (fun _ h => h) (v := .int (σ.1 20)) rfl dX2_copy_191 ?_
  refine g_put hF hG sG_0 hL (C := RX2) (T := TX2) (N := 26) rfl in_X2 tyX2 tyX2_ok nmX2 20 (by decide) q624 (fun _ h => h) rfl (by first | rfl | decide) rfl (Nat.le_of_ble_eq_true rfl) dX2_copy_194 (fun H locs hG => ?_)
  rw [sG_sf0 (by decide)] at hG
  have hG : gJK g L0 A s.heap (sG g.2.1 sz 0 u sc (cp24 σ) G) (sz + 18) H locs := hG
  refine lv_aload_n hx hb dX2_copy_197 rfl (lv_at hl 0 rfl) ?_
  refine lv_aload_n hx hb dX2_copy_198 rfl (lv_at hl 1 rfl) ?_
  refine g_get hF hG ((sG_out (gO_lo (by omega))).trans hB0) (C := RX2) (T := TX2) (N := 26) rfl in_X2 21 (by decide) q626 (fun _ h => h) (v := .int (σ.1 21)) rfl dX2_copy_199 ?_
  refine g_put hF hG sG_0 hL (C := RX2) (T := TX2) (N := 26) rfl in_X2 tyX2 tyX2_ok nmX2 21 (by decide) q626 (fun _ h => h) rfl (by first | rfl | decide) rfl (Nat.le_of_ble_eq_true rfl) dX2_copy_202 (fun H locs hG => ?_)
  rw [sG_sf0 (by decide)] at hG
  have hG : gJK g L0 A s.heap (sG g.2.1 sz 0 u sc (cp25 σ) G) (sz + 18) H locs := hG
  refine lv_aload_n hx hb dX2_copy_205 rfl (lv_at hl 0 rfl) ?_
  refine lv_aload_n hx hb dX2_copy_206 rfl (lv_at hl 1 rfl) ?_
  refine g_get hF hG ((sG_out (gO_lo (by omega))).trans hB0) (C := RX2) (T := TX2) (N := 26) rfl in_X2 22 (by decide) q628 (fun _ h => h) (v := .int (σ.1 22)) rfl dX2_copy_207 ?_
  refine g_put hF hG sG_0 hL (C := RX2) (T := TX2) (N := 26) rfl in_X2 tyX2 tyX2_ok nmX2 22 (by decide) q628 (fun _ h => h) rfl (by first | rfl | decide) rfl (Nat.le_of_ble_eq_true rfl) dX2_copy_210 (fun H locs hG => ?_)
  rw [sG_sf0 (by decide)] at hG
  have hG : gJK g L0 A s.heap (sG g.2.1 sz 0 u sc (cp26 σ) G) (sz + 18) H locs := hG
  refine lv_aload_n hx hb dX2_copy_213 rfl (lv_at hl 0 rfl) ?_
  refine lv_aload_n hx hb dX2_copy_214 rfl (lv_at hl 1 rfl) ?_
  refine g_get hF hG ((sG_out (gO_lo (by omega))).trans hB0) (C := RX2) (T := TX2) (N := 26) rfl in_X2 23 (by decide) q630 (fun _ h => h) (v := .int (σ.1 23)) rfl dX2_copy_215 ?_
  refine g_put hF hG sG_0 hL (C := RX2) (T := TX2) (N := 26) rfl in_X2 tyX2 tyX2_ok nmX2 23 (by decide) q630 (fun _ h => h) rfl (by first | rfl | decide) rfl (Nat.le_of_ble_eq_true rfl) dX2_copy_218 (fun H locs hG => ?_)
  rw [sG_sf0 (by decide)] at hG
  have hG : gJK g L0 A s.heap (sG g.2.1 sz 0 u sc (cp27 σ) G) (sz + 18) H locs := hG
  refine lv_aload_n hx hb dX2_copy_221 rfl (lv_at hl 0 rfl) ?_
  refine lv_aload_n hx hb dX2_copy_222 rfl (lv_at hl 1 rfl) ?_
  refine g_get hF hG ((sG_out (gO_lo (by omega))).trans hB0) (C := RX2) (T := TX2) (N := 26) rfl in_X2 25 (by decide) q634 (fun _ h => h) (v := .int (σ.1 25)) rfl dX2_copy_223 ?_
  refine g_put hF hG sG_0 hL (C := RX2) (T := TX2) (N := 26) rfl in_X2 tyX2 tyX2_ok nmX2 25 (by decide) q634 (fun _ h => h) rfl (by rcases hz with hz | hz <;> rw [hz] <;> decide) (by rcases hz with hz | hz <;> rw [hz] <;> decide) (Nat.le_of_ble_eq_true rfl) dX2_copy_226 (fun H locs hG => ?_)
  rw [sG_sf0 (by decide)] at hG
  have hG : gJK g L0 A s.heap (sG g.2.1 sz 0 u sc (cp28 σ) G) (sz + 18) H locs := hG
  refine lv_aload_n hx hb dX2_copy_229 rfl (lv_at hl 0 rfl) ?_
  exact g_aret hQ (Or.inl ⟨_, rfl⟩) hG (Or.inr ⟨_, rfl⟩) ⟨rfl, rfl, rfl⟩ (Nat.le_of_ble_eq_true rfl) (Nat.le_of_ble_eq_true rfl) dX2_copy_230
