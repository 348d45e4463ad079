section CC
variable {p : Program} {l : Launch} {e : Env} {R : Room} {s : State} {m : MethodId} {args : Array Value} {below : List Frame} {meth : Method} {c : Code} {H : Heap} {locs : List Loc} {cells slots : Nat} {Q : State → Prop}
variable {cc : ByteArray} {pc : Nat} {ls : Array Slot} {rest : List Value} {A : Nat → Prop} {L0 n nL : Nat} {g : gNum} {rm : Room} {lv : List (Nat × Value)} {γ : Type} {o : γ}
variable {b d : Nat} {su : SU} {sc : SC} {σ : SS} {G0 : GH}
/-! X5_send -/
def c_X5_send (sc : SC) (σ : SS) (p0 : Int32) (p1 : Int32) (p2 : Int32) : Option (SS) :=
ob1 (j_X5_sum 0 (sL 16) (σ.2 16)) fun (v1 : Int32) =>
ob1 (S_rd σ 16 p0) fun (v2 : Int32) =>
ob1 (S_wr σ 16 p0 (v2 + 1)) fun (σ3 : SS) =>
oe0 (ρ := SS) (
if (Int32.ofNat sc.2.1) ≤ 0 then (
some (Sum.inr ()))
else (
gd (¬ (Int32.ofNat sc.2.1) = 0) <|
ob1 (U_scr sc (v1 - v1 / (Int32.ofNat sc.2.1) * (Int32.ofNat sc.2.1))) fun (v4 : Int32) =>
if v4 = 1 then (
ob1 (S_rd σ3 17 p0) fun (v5 : Int32) =>
ob1 (S_wr σ3 17 p0 (v5 + 1)) fun (σ6 : SS) =>
some (Sum.inl σ6))
else (
some (Sum.inr ())))) (fun r => some r) (
ob1 (S_wr σ3 15 (σ3.1 32) ((((256 * p0) + (16 * p1)) + p2) + 1)) fun (σ7 : SS) =>
nm (S_sf σ7 32 ((σ7.1 32) + 1)) fun (σ8 : SS) =>
some σ8)
set_option maxRecDepth 100000 in
theorem w_X5_send {l : Launch} {g : gNum} {L0 b d sz : Nat} {su : SU} {sc : SC} {G0 : GH} (hL0 : L0 ≤ b) (hsu : suOK g.2.1 su b d G0) (hsc : suAt b d G0 sc.1 (.inl (g.2.1 0, sc.2.1, .inl sc.2.2))) (σ : SS) (p0 : Int32) (p1 : Int32) (p2 : Int32) {out : SS} (h : c_X5_send sc σ p0 p1 p2 = some out) : gMet l yX5_send (ws_ yX5_send cX5_send 5 none) g.1 clX L0 (gK g) [.ref (b + d + 14), .int p0, .int p1, .int p2] (sG g.2.1 b d (su.1 0) sc σ G0) sz 1 25 0 0 (fun v G n => v = none ∧ G = sG g.2.1 b d (su.1 0) sc out G0 ∧ n = sz) := by
  refine gMet.of (own := RX5) (gK_ok g) (by decide +kernel) (Nat.le_of_ble_eq_true rfl) rfl ?_
  intro p e R s m args below meth c A Q ls H hF hQ hin hG hl
  have hx := hF.1.1
  have hb := hF.1.2.1
  have hts := hF.1.2.2.2.2
  have hl : lv_has ls 5 [(0, .ref (b + d + 14)), (1, .int p0), (2, .int p1), (3, .int p2)] := hl
  unfold c_X5_send at h
  refine lv_aload_n hx hb dX5_send_0 rfl (lv_at hl 0 rfl) ?_
  refine g_get hF hG sG_14 (C := RX5) (T := TX5) (N := 5) rfl in_X5 1 (by decide) q569 (fun _ h => h) (v := .ref (b + d + 16)) rfl dX5_send_1 ?_
  refine ks_sum q1693 hF hG hl (Nat.le_of_ble_eq_true rfl) (Nat.le_of_ble_eq_true rfl) (j := 16) (by decide) h ⟨Nat.le_of_ble_eq_true rfl, Nat.le_of_ble_eq_true rfl⟩ (Nat.le_of_ble_eq_true rfl) dX5_send_4 (fun v1 H locs h hG => ?_)
  refine lv_istore hx hb dX5_send_7 hl (Nat.le_of_ble_eq_true rfl) (lv' := [(4, .int v1), (0, .ref (b + d + 14)), (1, .int p0), (2, .int p1), (3, .int p2)]) rfl (fun ls hl => ?_)
  refine lv_aload_n hx hb dX5_send_9 rfl (lv_at hl 1 rfl) ?_
  refine g_get hF hG sG_14 (C := RX5) (T := TX5) (N := 5) rfl in_X5 1 (by decide) q569 (fun _ h => h) (v := .ref (b + d + 16)) rfl dX5_send_10 ?_
  refine lv_iload_n hx hb dX5_send_13 rfl (lv_at hl 2 rfl) ?_
  refine lv_dup2_11 hx hb dX5_send_14 rfl rfl ?_
  refine s_rd hF hG (j := 16) (by decide) h dX5_send_15 (fun v2 h => ?_)
  refine lv_iconst (v := 1) hx hb dX5_send_16 (by decide) ?_
  refine lv_iadd hx hb dX5_send_17 ?_
  refine s_wr hF hL0 hG (j := 16) (by decide) h dX5_send_18 (fun σ3 H locs h hG => ?_)
  refine lv_aload_n hx hb dX5_send_19 rfl (lv_at hl 1 rfl) ?_
  refine g_get hF hG sG_14 (C := RX5) (T := TX5) (N := 5) rfl in_X5 4 (by decide) q576 (fun _ h => h) (v := .ref sc.1) rfl dX5_send_20 ?_
  refine g_alen hF hG hsc.rd 0 rfl rfl dX5_send_23 ?_
  obtain ⟨X1, h, hE1, hJ1⟩ := oe0_u h
  have J1 : X1 = Sum.inr () → ∀ (H : Heap) (locs : List Loc) (ls : Array Slot), gJK g L0 A s.heap (sG g.2.1 b d (su.1 0) sc σ3 G0) sz H locs → lv_has ls 5 [(0, .ref (b + d + 14)), (1, .int p0), (2, .int p1), (3, .int p2)] → W p l e R s m args below meth c H locs 0 0 Q (F0 m 55 ls []) := by
    intro  e0 H locs ls hG hl
    have h := hJ1 e0
    refine lv_aload_n hx hb dX5_send_55 rfl (lv_at hl 0 rfl) ?_
    refine g_get hF hG sG_14 (C := RX5) (T := TX5) (N := 5) rfl in_X5 0 (by decide) q566 (fun _ h => h) (v := .ref (b + d + 15)) rfl dX5_send_56 ?_
    refine lv_aload_n hx hb dX5_send_59 rfl (lv_at hl 0 rfl) ?_
    refine g_get hF hG sG_14 (C := RX5) (T := TX5) (N := 5) rfl in_X5 3 (by decide) q573 (fun _ h => h) (v := .int (σ3.1 32)) rfl dX5_send_60 ?_
    refine lv_sipush (v := 256) hx hb dX5_send_63 (by decide) ?_
    refine lv_iload_n hx hb dX5_send_66 rfl (lv_at hl 1 rfl) ?_
    refine lv_imul hx hb dX5_send_67 ?_
    refine lv_bipush (v := 16) hx hb dX5_send_68 (by decide) ?_
    refine lv_iload_n hx hb dX5_send_70 rfl (lv_at hl 2 rfl) ?_
    refine lv_imul hx hb dX5_send_71 ?_
    refine lv_iadd hx hb dX5_send_72 ?_
    refine lv_iload_n hx hb dX5_send_73 rfl (lv_at hl 3 rfl) ?_
    refine lv_iadd hx hb dX5_send_74 ?_
    refine lv_iconst (v := 1) hx hb dX5_send_75 (by decide) ?_
    refine lv_iadd hx hb dX5_send_76 ?_
    refine s_wr hF hL0 hG (j := 15) (by decide) h dX5_send_77 (fun σ7 H locs h hG => ?_)
    refine lv_aload_n hx hb dX5_send_78 rfl (lv_at hl 0 rfl) ?_
    refine lv_dup hx hb dX5_send_79 rfl ?_
    refine g_get hF hG sG_14 (C := RX5) (T := TX5) (N := 5) rfl in_X5 3 (by decide) q573 (fun _ h => h) (v := .int (σ7.1 32)) rfl dX5_send_80 ?_
    refine lv_iconst (v := 1) hx hb dX5_send_83 (by decide) ?_
    refine lv_iadd hx hb dX5_send_84 ?_
    refine s_putW hF hL0 hG q573 h dX5_send_85 (fun σ8 H locs h hG => ?_)
    have h := Option.some.inj h
    subst h
    exact g_vret hQ hG ⟨rfl, rfl, rfl⟩ (Nat.le_of_ble_eq_true rfl) (Nat.le_of_ble_eq_true rfl) dX5_send_88
  refine gb_if_le hx hb dX5_send_24 (tgt := 55) (by decide) h (fun h => ?_) (fun h => ?_)
  · exact J1 (Option.some.inj h).symm _ _ _ hG (lv_sub hl [1, 2, 3, 4] rfl)
  · refine lv_aload_n hx hb dX5_send_27 rfl (lv_at hl 1 rfl) ?_
    refine g_get hF hG sG_14 (C := RX5) (T := TX5) (N := 5) rfl in_X5 4 (by decide) q576 (fun _ h => h) (v := .ref sc.1) rfl dX5_send_28 ?_
    refine lv_iload hx hb dX5_send_31 (lv_at hl 0 rfl) ?_
    refine lv_aload_n hx hb dX5_send_33 rfl (lv_at hl 1 rfl) ?_
    refine g_get hF hG sG_14 (C := RX5) (T := TX5) (N := 5) rfl in_X5 4 (by decide) q576 (fun _ h => h) (v := .ref sc.1) rfl dX5_send_34 ?_
    refine g_alen hF hG hsc.rd 0 rfl rfl dX5_send_37 ?_
    refine gb_irem hx hb dX5_send_38 h (fun h => ?_)
    refine c_iald hF hG hsc.rd h dX5_send_39 (fun v4 h => ?_)
    refine lv_iconst (v := 1) hx hb dX5_send_40 (by decide) ?_
    refine gb_icmp_ne hx hb dX5_send_41 (tgt := 55) (by decide) h (fun h => ?_) (fun h => ?_)
    · exact J1 (Option.some.inj h).symm _ _ _ hG (lv_sub hl [1, 2, 3, 4] rfl)
    · refine lv_aload_n hx hb dX5_send_44 rfl (lv_at hl 1 rfl) ?_
      refine g_get hF hG sG_14 (C := RX5) (T := TX5) (N := 5) rfl in_X5 2 (by decide) q571 (fun _ h => h) (v := .ref (b + d + 17)) rfl dX5_send_45 ?_
      refine lv_iload_n hx hb dX5_send_48 rfl (lv_at hl 2 rfl) ?_
      refine lv_dup2_11 hx hb dX5_send_49 rfl rfl ?_
      refine s_rd hF hG (j := 17) (by decide) h dX5_send_50 (fun v5 h => ?_)
      refine lv_iconst (v := 1) hx hb dX5_send_51 (by decide) ?_
      refine lv_iadd hx hb dX5_send_52 ?_
      refine s_wr hF hL0 hG (j := 17) (by decide) h dX5_send_53 (fun σ6 H locs h hG => ?_)
      have h := hE1 _ (Option.some.inj h).symm
      have h := Option.some.inj h
      subst h
      exact g_vret hQ hG ⟨rfl, rfl, rfl⟩ (Nat.le_of_ble_eq_true rfl) (Nat.le_of_ble_eq_true rfl) dX5_send_54
theorem k_X5_send {own : String} {index : Nat} (hq : (Cond.methodLink own index yX5_send) ∈ lw_all) (hF : gXK p m c cc nL s args own g A R rm) (hL0 : L0 ≤ b) (hsu : suOK g.2.1 su b d G0) (hsc : suAt b d G0 sc.1 (.inl (g.2.1 0, sc.2.1, .inl sc.2.2))) (hG : gJK g L0 A s.heap (sG g.2.1 b d (su.1 0) sc σ G0) n H locs) (hl : lv_has ls nL lv) (h1 : 1 + 1 ≤ rm.frames) (h2 : 8 + (5 + 11) + 25 ≤ rm.locals) {p0 : Int32} {p1 : Int32} {p2 : Int32} {f : SS → Option γ} (h : ob1 (c_X5_send sc σ p0 p1 p2) f = some o) (hc : cells ≤ rm.cells ∧ slots ≤ rm.slots) (hW : (rest.map fun v => v.category).sum ≤ 8) (hdg : decode cc pc = .ok (.invokevirtual index, 3))
    (kk : ∀ (σ1 : SS) (H1 : Heap) (locs1 : List Loc), f σ1 = some o → gJK g L0 A s.heap (sG g.2.1 b d (su.1 0) sc σ1 G0) n H1 locs1 → W p l e R s m args below meth c H1 locs1 cells slots Q (F0 m (pc + 3) ls rest)) : W p l e R s m args below meth c H locs cells slots Q (F0 m pc ls (.int p2 :: .int p1 :: .int p0 :: .ref (b + d + 14) :: rest)) := by
  obtain ⟨r, hr, h⟩ := ob1_e h
  refine g_callV hF hG hl sG_14 (C := RX5) (T := TX5) (N := 5) rfl (w_X5_send hL0 hsu hsc σ p0 p1 p2 hr) (cwV 3 hF.1.2.2.2.2 (lw_V hq q1690 q1691 q105 q1692) rfl rfl rfl (by decide +kernel) (g_room hF h1 h2)) rfl rfl hW hdg (hf0 hF.2.2.2.2 hc) (fun v G1 n1 H1 locs1 hR hG1 => ?_)
  obtain ⟨rfl, e2, e3⟩ := hR
  rw [e2, e3] at hG1
  exact kk r H1 locs1 h hG1
/-! X2_begin -/
def c_X2_begin_L5 (su : SU) : Nat → Int32 → SS → Option (SS)
  | 0, _, _ => none
  | n + 1, y6, σ7 =>
    if 12 ≤ y6 then (
    some σ7)
    else (
    ob1 (j_X1_has (σ7.1 13) y6) fun (v8 : Int32) =>
    ob1 (
    if v8 = 0 then (
    some (0 : Int32))
    else (
    some (1 : Int32))) fun (z9 : Int32) =>
    ob1 (S_wr σ7 1 y6 z9) fun (σ10 : SS) =>
    ob1 (S_wr σ10 4 y6 (-1)) fun (σ11 : SS) =>
    ob1 (S_wr σ11 5 y6 (-1)) fun (σ12 : SS) =>
    ob1 (
    if (U_n su) ≤ y6 then (
    some (0 : Int32))
    else (
    ob1 (U_at su y6) fun (i13 : Nat) =>
    some (U_o su i13 5))) fun (z14 : Int32) =>
    ob1 (S_wr σ12 8 y6 z14) fun (σ15 : SS) =>
    nm (y6 + 1) fun (x16 : Int32) =>
    c_X2_begin_L5 su n x16 σ15)
def c_X2_begin (su : SU) (σ : SS) : Option (SS) :=
nm (S_sf σ 17 (su.2.1 8)) fun (σ1 : SS) =>
nm (S_sf σ1 18 (su.2.1 7)) fun (σ2 : SS) =>
gd ((su.2.1 9) = 0 ∨ (su.2.1 9) = 1) <| nm (S_sf σ2 25 (su.2.1 9)) fun (σ3 : SS) =>
nm (S_sf σ3 13 (((1 <<< ((U_n su) &&& 31)) - 1) &&& ((su.2.1 5) ^^^ (-1)))) fun (σ4 : SS) =>
ob1 (
c_X2_begin_L5 su 4096 0 σ4) fun (σ17 : SS) =>
some σ17
set_option maxRecDepth 100000 in
theorem w_X2_begin {l : Launch} {g : gNum} {L0 b d sz : Nat} {su : SU} {sc : SC} {G0 : GH} (hL0 : L0 ≤ b) (hsu : suOK g.2.1 su b d G0) (hsc : suAt b d G0 sc.1 (.inl (g.2.1 0, sc.2.1, .inl sc.2.2))) (σ : SS) {out : SS} (h : c_X2_begin su σ = some out) : gMet l yX2_begin (ws_ yX2_begin cX2_begin 2 (some (.object "BlackoutStart$State"))) g.1 clX L0 (gK g) [.ref b] (sG g.2.1 b d (su.1 0) sc σ G0) sz 3 64 0 0 (fun v G n => v = some (.ref b) ∧ G = sG g.2.1 b d (su.1 0) sc out G0 ∧ n = sz) := by
  refine gMet.of (own := RX2) (gK_ok g) (by decide +kernel) (Nat.le_of_ble_eq_true rfl) rfl ?_
  intro p e R s m args below meth c A Q ls H hF hQ hin hG hl
  have hx := hF.1.1
  have hb := hF.1.2.1
  have hts := hF.1.2.2.2.2
  have hl : lv_has ls 2 [(0, .ref b)] := hl
  unfold c_X2_begin at h
  refine lv_aload_n hx hb dX2_begin_0 rfl (lv_at hl 0 rfl) ?_
  refine lv_aload_n hx hb dX2_begin_1 rfl (lv_at hl 0 rfl) ?_
  refine g_get hF hG sG_0 (C := RX2) (T := TX2) (N := 26) rfl in_X2 0 (by decide) q589 (fun _ h => h) (v := .ref (su.1 0)) rfl dX2_begin_2 ?_
  refine g_getN hF hG hsu.1.rd (C := RX3) (T := TX3) (N := 10) rfl in_X3 8 (by decide) q513 (fun _ h => h) (v := .int (su.2.1 8)) rfl dX2_begin_5 ?_
  refine s_putI hF hL0 hG 17 (by decide) ⟨rfl, rfl, rfl⟩ q618 h dX2_begin_8 (fun σ1 H locs h hG => ?_)
  refine lv_aload_n hx hb dX2_begin_11 rfl (lv_at hl 0 rfl) ?_
  refine lv_aload_n hx hb dX2_begin_12 rfl (lv_at hl 0 rfl) ?_
  refine g_get hF hG sG_0 (C := RX2) (T := TX2) (N := 26) rfl in_X2 0 (by decide) q589 (fun _ h => h) (v := .ref (su.1 0)) rfl dX2_begin_13 ?_
  refine g_getN hF hG hsu.1.rd (C := RX3) (T := TX3) (N := 10) rfl in_X3 7 (by decide) q510 (fun _ h => h) (v := .int (su.2.1 7)) rfl dX2_begin_16 ?_
  refine s_putI hF hL0 hG 18 (by decide) ⟨rfl, rfl, rfl⟩ q620 h dX2_begin_19 (fun σ2 H locs h hG => ?_)
  refine lv_aload_n hx hb dX2_begin_22 rfl (lv_at hl 0 rfl) ?_
  refine lv_aload_n hx hb dX2_begin_23 rfl (lv_at hl 0 rfl) ?_
  refine g_get hF hG sG_0 (C := RX2) (T := TX2) (N := 26) rfl in_X2 0 (by decide) q589 (fun _ h => h) (v := .ref (su.1 0)) rfl dX2_begin_24 ?_
  refine g_getN hF hG hsu.1.rd (C := RX3) (T := TX3) (N := 10) rfl in_X3 9 (by decide) q515 (fun _ h => h) (v := .int (su.2.1 9)) rfl dX2_begin_27 ?_
  refine s_putZ hF hL0 hG q634 h dX2_begin_30 (fun σ3 H locs h hG => ?_)
  refine lv_aload_n hx hb dX2_begin_33 rfl (lv_at hl 0 rfl) ?_
  refine lv_iconst (v := 1) hx hb dX2_begin_34 (by decide) ?_
  refine lv_aload_n hx hb dX2_begin_35 rfl (lv_at hl 0 rfl) ?_
  refine g_get hF hG sG_0 (C := RX2) (T := TX2) (N := 26) rfl in_X2 0 (by decide) q589 (fun _ h => h) (v := .ref (su.1 0)) rfl dX2_begin_36 ?_
  refine ks_size q693 hF (su_of hsu) hG hl (Nat.le_of_ble_eq_true rfl) (Nat.le_of_ble_eq_true rfl) ⟨Nat.le_of_ble_eq_true rfl, Nat.le_of_ble_eq_true rfl⟩ (Nat.le_of_ble_eq_true rfl) dX2_begin_39 (fun H locs hG => ?_)
  refine lv_ishl hx hb dX2_begin_42 ?_
  refine lv_iconst (v := 1) hx hb dX2_begin_43 (by decide) ?_
  refine lv_isub hx hb dX2_begin_44 ?_
  refine lv_aload_n hx hb dX2_begin_45 rfl (lv_at hl 0 rfl) ?_
  refine g_get hF hG sG_0 (C := RX2) (T := TX2) (N := 26) rfl in_X2 0 (by decide) q589 (fun _ h => h) (v := .ref (su.1 0)) rfl dX2_begin_46 ?_
  refine g_getN hF hG hsu.1.rd (C := RX3) (T := TX3) (N := 10) rfl in_X3 5 (by decide) q503 (fun _ h => h) (v := .int (su.2.1 5)) rfl dX2_begin_49 ?_
  refine lv_iconst (v := (-1)) hx hb dX2_begin_52 (by decide) ?_
  refine lv_ixor hx hb dX2_begin_53 ?_
  refine lv_iand hx hb dX2_begin_54 ?_
  refine s_putI hF hL0 hG 13 (by decide) ⟨rfl, rfl, rfl⟩ q612 h dX2_begin_55 (fun σ4 H locs h hG => ?_)
  refine lv_iconst (v := 0) hx hb dX2_begin_58 (by decide) ?_
  refine lv_istore_n hx hb dX2_begin_59 rfl hl (Nat.le_of_ble_eq_true rfl) (lv' := [(1, .int 0), (0, .ref b)]) rfl (fun ls hl => ?_)
  obtain ⟨X1, h, hJ1⟩ := ob1_u h
  have J1 : ∀ (σ17 : SS), X1 = σ17 → ∀ (H : Heap) (locs : List Loc) (ls : Array Slot), gJK g L0 A s.heap (sG g.2.1 b d (su.1 0) sc σ17 G0) sz H locs → lv_has ls 2 [(0, .ref b)] → W p l e R s m args below meth c H locs 0 0 Q (F0 m 148 ls []) := by
    intro σ17 e0 H locs ls hG hl
    have h := hJ1 σ17 e0
    refine lv_aload_n hx hb dX2_begin_148 rfl (lv_at hl 0 rfl) ?_
    have h := Option.some.inj h
    subst h
    exact g_aret hQ (Or.inl ⟨_, rfl⟩) hG (Or.inr ⟨_, rfl⟩) ⟨rfl, rfl, rfl⟩ (Nat.le_of_ble_eq_true rfl) (Nat.le_of_ble_eq_true rfl) dX2_begin_149
  have LL5 : ∀ (n : Nat) (y6 : Int32) (σ7 : SS), c_X2_begin_L5 su n y6 σ7 = some X1 → ∀ (H : Heap) (locs : List Loc) (ls : Array Slot), gJK g L0 A s.heap (sG g.2.1 b d (su.1 0) sc σ7 G0) sz H locs → lv_has ls 2 [(0, .ref b), (1, .int y6)] → W p l e R s m args below meth c H locs 0 0 Q (F0 m 60 ls []) := by
    intro n
    induction n with
    | zero =>
      intro y6 σ7 h
      rw [c_X2_begin_L5] at h
      cases h
    | succ n ihL5 =>
      intro y6 σ7 h H locs ls hG hl
      rw [c_X2_begin_L5] at h
      refine lv_iload_n hx hb dX2_begin_60 rfl (lv_at hl 1 rfl) ?_
      refine lv_bipush (v := 12) hx hb dX2_begin_61 (by decide) ?_
      refine gb_icmp_ge hx hb dX2_begin_63 (tgt := 148) (by decide) h (fun h => ?_) (fun h => ?_)
      · exact J1 _ (Option.some.inj h).symm _ _ _ hG (lv_sub hl [0] rfl)
      · refine lv_aload_n hx hb dX2_begin_66 rfl (lv_at hl 0 rfl) ?_
        refine g_get hF hG sG_0 (C := RX2) (T := TX2) (N := 26) rfl in_X2 1 (by decide) q591 (fun _ h => h) (v := .ref (b + d + 1)) rfl dX2_begin_67 ?_
        refine lv_iload_n hx hb dX2_begin_70 rfl (lv_at hl 1 rfl) ?_
        refine lv_aload_n hx hb dX2_begin_71 rfl (lv_at hl 0 rfl) ?_
        refine g_get hF hG sG_0 (C := RX2) (T := TX2) (N := 26) rfl in_X2 13 (by decide) q612 (fun _ h => h) (v := .int (σ7.1 13)) rfl dX2_begin_72 ?_
        refine lv_iload_n hx hb dX2_begin_75 rfl (lv_at hl 1 rfl) ?_
        refine ks_hasN q707 hF hG hl (Nat.le_of_ble_eq_true rfl) (Nat.le_of_ble_eq_true rfl) h ⟨Nat.le_of_ble_eq_true rfl, Nat.le_of_ble_eq_true rfl⟩ (Nat.le_of_ble_eq_true rfl) dX2_begin_76 (fun v8 H locs h hG => ?_)
        obtain ⟨X2, h, hJ2⟩ := ob1_u h
        have J2 : ∀ (z9 : Int32), X2 = z9 → ∀ (H : Heap) (locs : List Loc) (ls : Array Slot), gJK g L0 A s.heap (sG g.2.1 b d (su.1 0) sc σ7 G0) sz H locs → lv_has ls 2 [(0, .ref b), (1, .int y6)] → W p l e R s m args below meth c H locs 0 0 Q (F0 m 87 ls [.int z9, .int y6, .ref (b + d + 1)]) := by
          intro z9 e0 H locs ls hG hl
          have h := hJ2 z9 e0
          refine s_wr hF hL0 hG (j := 1) (by decide) h dX2_begin_87 (fun σ10 H locs h hG => ?_)
          refine lv_aload_n hx hb dX2_begin_88 rfl (lv_at hl 0 rfl) ?_
          refine g_get hF hG sG_0 (C := RX2) (T := TX2) (N := 26) rfl in_X2 4 (by decide) q597 (fun _ h => h) (v := .ref (b + d + 4)) rfl dX2_begin_89 ?_
          refine lv_iload_n hx hb dX2_begin_92 rfl (lv_at hl 1 rfl) ?_
          refine lv_iconst (v := (-1)) hx hb dX2_begin_93 (by decide) ?_
          refine s_wr hF hL0 hG (j := 4) (by decide) h dX2_begin_94 (fun σ11 H locs h hG => ?_)
          refine lv_aload_n hx hb dX2_begin_95 rfl (lv_at hl 0 rfl) ?_
          refine g_get hF hG sG_0 (C := RX2) (T := TX2) (N := 26) rfl in_X2 5 (by decide) q599 (fun _ h => h) (v := .ref (b + d + 5)) rfl dX2_begin_96 ?_
          refine lv_iload_n hx hb dX2_begin_99 rfl (lv_at hl 1 rfl) ?_
          refine lv_iconst (v := (-1)) hx hb dX2_begin_100 (by decide) ?_
          refine s_wr hF hL0 hG (j := 5) (by decide) h dX2_begin_101 (fun σ12 H locs h hG => ?_)
          refine lv_aload_n hx hb dX2_begin_102 rfl (lv_at hl 0 rfl) ?_
          refine g_get hF hG sG_0 (C := RX2) (T := TX2) (N := 26) rfl in_X2 8 (by decide) q604 (fun _ h => h) (v := .ref (b + d + 8)) rfl dX2_begin_103 ?_
          refine lv_iload_n hx hb dX2_begin_106 rfl (lv_at hl 1 rfl) ?_
          refine lv_iload_n hx hb dX2_begin_107 rfl (lv_at hl 1 rfl) ?_
          refine lv_aload_n hx hb dX2_begin_108 rfl (lv_at hl 0 rfl) ?_
          refine g_get hF hG sG_0 (C := RX2) (T := TX2) (N := 26) rfl in_X2 0 (by decide) q589 (fun _ h => h) (v := .ref (su.1 0)) rfl dX2_begin_109 ?_
          refine ks_size q693 hF (su_of hsu) hG hl (Nat.le_of_ble_eq_true rfl) (Nat.le_of_ble_eq_true rfl) ⟨Nat.le_of_ble_eq_true rfl, Nat.le_of_ble_eq_true rfl⟩ (Nat.le_of_ble_eq_true rfl) dX2_begin_112 (fun H locs hG => ?_)
          obtain ⟨X3, h, hJ3⟩ := ob1_u h
          have J3 : ∀ (z14 : Int32), X3 = z14 → ∀ (H : Heap) (locs : List Loc) (ls : Array Slot), gJK g L0 A s.heap (sG g.2.1 b d (su.1 0) sc σ12 G0) sz H locs → lv_has ls 2 [(0, .ref b), (1, .int y6)] → W p l e R s m args below meth c H locs 0 0 Q (F0 m 141 ls [.int z14, .int y6, .ref (b + d + 8)]) := by
            intro z14 e0 H locs ls hG hl
            have h := hJ3 z14 e0
            refine s_wr hF hL0 hG (j := 8) (by decide) h dX2_begin_141 (fun σ15 H locs h hG => ?_)
            refine gb_iinc (k' := 1) hx hb dX2_begin_142 hl (k := 1) rfl (by decide) (Nat.le_of_ble_eq_true rfl) h (fun x16 ls h hl => ?_)
            have hl : lv_has ls 2 [(1, .int x16), (0, .ref b)] := hl
            refine lv_goto hx hb dX2_begin_145 (tgt := 60) (by decide) ?_
            exact ihL5 _ _ h _ _ _ hG (lv_sub hl [1, 0] rfl)
          refine gb_icmp_ge hx hb dX2_begin_115 (tgt := 140) (by decide) h (fun h => ?_) (fun h => ?_)
          · refine lv_iconst (v := 0) hx hb dX2_begin_140 (by decide) ?_
            exact J3 _ (Option.some.inj h).symm _ _ _ hG hl
          · refine lv_aload_n hx hb dX2_begin_118 rfl (lv_at hl 0 rfl) ?_
            refine g_get hF hG sG_0 (C := RX2) (T := TX2) (N := 26) rfl in_X2 0 (by decide) q589 (fun _ h => h) (v := .ref (su.1 0)) rfl dX2_begin_119 ?_
            refine g_getN hF hG hsu.1.rd (C := RX3) (T := TX3) (N := 10) rfl in_X3 0 (by decide) q489 (fun _ h => h) (v := .ref (su.1 1)) rfl dX2_begin_122 ?_
            refine lv_iload_n hx hb dX2_begin_125 rfl (lv_at hl 1 rfl) ?_
            refine ks_get q711 q729 hF (su_of hsu) hG hl (Nat.le_of_ble_eq_true rfl) (Nat.le_of_ble_eq_true rfl) h ⟨Nat.le_of_ble_eq_true rfl, Nat.le_of_ble_eq_true rfl⟩ (Nat.le_of_ble_eq_true rfl) dX2_begin_126 dX2_begin_131 (fun i13 H locs hi_i13 h hG => ?_)
            refine ks_out hF (su_of hsu) hG hi_i13 5 (by decide) rfl q1253 dX2_begin_134 ?_
            refine lv_goto hx hb dX2_begin_137 (tgt := 141) (by decide) ?_
            exact J3 _ (Option.some.inj h).symm _ _ _ hG hl
        refine gb_if_eq hx hb dX2_begin_79 (tgt := 86) (by decide) h (fun h => ?_) (fun h => ?_)
        · refine lv_iconst (v := 0) hx hb dX2_begin_86 (by decide) ?_
          exact J2 _ (Option.some.inj h).symm _ _ _ hG hl
        · refine lv_iconst (v := 1) hx hb dX2_begin_82 (by decide) ?_
          refine lv_goto hx hb dX2_begin_83 (tgt := 87) (by decide) ?_
          exact J2 _ (Option.some.inj h).symm _ _ _ hG hl
  exact LL5 _ _ _ h _ _ _ hG (lv_sub hl [1, 0] rfl)
theorem k_X2_begin {own : String} {index : Nat} (hq : (Cond.methodLink own index yX2_begin) ∈ lw_all) (hF : gXK p m c cc nL s args own g A R rm) (hL0 : L0 ≤ b) (hsu : suOK g.2.1 su b d G0) (hsc : suAt b d G0 sc.1 (.inl (g.2.1 0, sc.2.1, .inl sc.2.2))) (hG : gJK g L0 A s.heap (sG g.2.1 b d (su.1 0) sc σ G0) n H locs) (hl : lv_has ls nL lv) (h1 : 3 + 1 ≤ rm.frames) (h2 : 8 + (2 + 11) + 64 ≤ rm.locals) {f : SS → Option γ} (h : ob1 (c_X2_begin su σ) f = some o) (hc : cells ≤ rm.cells ∧ slots ≤ rm.slots) (hW : (rest.map fun v => v.category).sum ≤ 8) (hdg : decode cc pc = .ok (.invokevirtual index, 3))
    (kk : ∀ (σ1 : SS) (H1 : Heap) (locs1 : List Loc), f σ1 = some o → gJK g L0 A s.heap (sG g.2.1 b d (su.1 0) sc σ1 G0) n H1 locs1 → W p l e R s m args below meth c H1 locs1 cells slots Q (F0 m (pc + 3) ls (.ref b :: rest))) : W p l e R s m args below meth c H locs cells slots Q (F0 m pc ls (.ref b :: rest)) := by
  obtain ⟨r, hr, h⟩ := ob1_e h
  refine g_callV hF hG hl sG_0 (C := RX2) (T := TX2) (N := 26) rfl (w_X2_begin hL0 hsu hsc σ hr) (cwV 0 hF.1.2.2.2.2 (lw_V hq q690 q691 q83 q692) rfl rfl rfl (by decide +kernel) (g_room hF h1 h2)) rfl rfl hW hdg (hf0 hF.2.2.2.2 hc) (fun v G1 n1 H1 locs1 hR hG1 => ?_)
  obtain ⟨rfl, e2, e3⟩ := hR
  rw [e2, e3] at hG1
  exact kk r H1 locs1 h hG1
/-! X2_inState -/
def c_X2_inState_L1 (su : SU) (σ : SS) (p0 : Int32) : Nat → Int32 → Int32 → Option (Int32)
  | 0, _, _ => none
  | n + 1, y2, y3 =>
    if (U_n su) ≤ y3 then (
    some y2)
    else (
    ob1 (S_rd σ 1 y3) fun (v4 : Int32) =>
    ob1 (
    if v4 = p0 then (
    some (1 <<< (y3 &&& 31)))
    else (
    some (0 : Int32))) fun (z5 : Int32) =>
    nm (y2 ||| z5) fun (x6 : Int32) =>
    nm (y3 + 1) fun (x7 : Int32) =>
    c_X2_inState_L1 su σ p0 n x6 x7)
def c_X2_inState (su : SU) (σ : SS) (p0 : Int32) : Option (Int32) :=
ob1 (
c_X2_inState_L1 su σ p0 4096 0 0) fun (z8 : Int32) =>
some z8
set_option maxRecDepth 100000 in
theorem w_X2_inState {l : Launch} {g : gNum} {L0 b d sz : Nat} {su : SU} {sc : SC} {G0 : GH} (hL0 : L0 ≤ b) (hsu : suOK g.2.1 su b d G0) (hsc : suAt b d G0 sc.1 (.inl (g.2.1 0, sc.2.1, .inl sc.2.2))) (σ : SS) (p0 : Int32) {out : Int32} (h : c_X2_inState su σ p0 = some out) : gMet l yX2_inState (ws_ yX2_inState cX2_inState 4 (some .int)) g.1 clX L0 (gK g) [.ref b, .int p0] (sG g.2.1 b d (su.1 0) sc σ G0) sz 2 40 0 0 (fun v G n => v = some (.int out) ∧ G = sG g.2.1 b d (su.1 0) sc σ G0 ∧ n = sz) := by
  refine gMet.of (own := RX2) (gK_ok g) (by decide +kernel) (Nat.le_of_ble_eq_true rfl) rfl ?_
  intro p e R s m args below meth c A Q ls H hF hQ hin hG hl
  have hx := hF.1.1
  have hb := hF.1.2.1
  have hts := hF.1.2.2.2.2
  have hl : lv_has ls 4 [(0, .ref b), (1, .int p0)] := hl
  unfold c_X2_inState at h
  refine lv_iconst (v := 0) hx hb dX2_inState_0 (by decide) ?_
  refine lv_istore_n hx hb dX2_inState_1 rfl hl (Nat.le_of_ble_eq_true rfl) (lv' := [(2, .int 0), (0, .ref b), (1, .int p0)]) rfl (fun ls hl => ?_)
  refine lv_iconst (v := 0) hx hb dX2_inState_2 (by decide) ?_
  refine lv_istore_n hx hb dX2_inState_3 rfl hl (Nat.le_of_ble_eq_true rfl) (lv' := [(3, .int 0), (2, .int 0), (0, .ref b), (1, .int p0)]) rfl (fun ls hl => ?_)
  obtain ⟨X1, h, hJ1⟩ := ob1_u h
  have J1 : ∀ (z8 : Int32), X1 = z8 → ∀ (H : Heap) (locs : List Loc) (ls : Array Slot), gJK g L0 A s.heap (sG g.2.1 b d (su.1 0) sc σ G0) sz H locs → lv_has ls 4 [(2, .int z8)] → W p l e R s m args below meth c H locs 0 0 Q (F0 m 41 ls []) := by
    intro z8 e0 H locs ls hG hl
    have h := hJ1 z8 e0
    refine lv_iload_n hx hb dX2_inState_41 rfl (lv_at hl 0 rfl) ?_
    have h := Option.some.inj h
    subst h
    exact g_iret hQ hG ⟨rfl, rfl, rfl⟩ (Nat.le_of_ble_eq_true rfl) (Nat.le_of_ble_eq_true rfl) dX2_inState_42
  have LL1 : ∀ (n : Nat) (y2 : Int32) (y3 : Int32), c_X2_inState_L1 su σ p0 n y2 y3 = some X1 → ∀ (H : Heap) (locs : List Loc) (ls : Array Slot), gJK g L0 A s.heap (sG g.2.1 b d (su.1 0) sc σ G0) sz H locs → lv_has ls 4 [(0, .ref b), (1, .int p0), (2, .int y2), (3, .int y3)] → W p l e R s m args below meth c H locs 0 0 Q (F0 m 4 ls []) := by
    intro n
    induction n with
    | zero =>
      intro y2 y3 h
      rw [c_X2_inState_L1] at h
      cases h
    | succ n ihL1 =>
      intro y2 y3 h H locs ls hG hl
      rw [c_X2_inState_L1] at h
      refine lv_iload_n hx hb dX2_inState_4 rfl (lv_at hl 3 rfl) ?_
      refine lv_aload_n hx hb dX2_inState_5 rfl (lv_at hl 0 rfl) ?_
      refine g_get hF hG sG_0 (C := RX2) (T := TX2) (N := 26) rfl in_X2 0 (by decide) q589 (fun _ h => h) (v := .ref (su.1 0)) rfl dX2_inState_6 ?_
      refine ks_size q693 hF (su_of hsu) hG hl (Nat.le_of_ble_eq_true rfl) (Nat.le_of_ble_eq_true rfl) ⟨Nat.le_of_ble_eq_true rfl, Nat.le_of_ble_eq_true rfl⟩ (Nat.le_of_ble_eq_true rfl) dX2_inState_9 (fun H locs hG => ?_)
      refine gb_icmp_ge hx hb dX2_inState_12 (tgt := 41) (by decide) h (fun h => ?_) (fun h => ?_)
      · exact J1 _ (Option.some.inj h).symm _ _ _ hG (lv_sub hl [2] rfl)
      · refine lv_iload_n hx hb dX2_inState_15 rfl (lv_at hl 2 rfl) ?_
        refine lv_aload_n hx hb dX2_inState_16 rfl (lv_at hl 0 rfl) ?_
        refine g_get hF hG sG_0 (C := RX2) (T := TX2) (N := 26) rfl in_X2 1 (by decide) q591 (fun _ h => h) (v := .ref (b + d + 1)) rfl dX2_inState_17 ?_
        refine lv_iload_n hx hb dX2_inState_20 rfl (lv_at hl 3 rfl) ?_
        refine s_rd hF hG (j := 1) (by decide) h dX2_inState_21 (fun v4 h => ?_)
        refine lv_iload_n hx hb dX2_inState_22 rfl (lv_at hl 1 rfl) ?_
        obtain ⟨X2, h, hJ2⟩ := ob1_u h
        have J2 : ∀ (z5 : Int32), X2 = z5 → ∀ (H : Heap) (locs : List Loc) (ls : Array Slot), gJK g L0 A s.heap (sG g.2.1 b d (su.1 0) sc σ G0) sz H locs → lv_has ls 4 [(0, .ref b), (1, .int p0), (3, .int y3)] → W p l e R s m args below meth c H locs 0 0 Q (F0 m 33 ls [.int z5, .int y2]) := by
          intro z5 e0 H locs ls hG hl
          have h := hJ2 z5 e0
          refine lv_ior hx hb dX2_inState_33 ?_
          refine gb_nm h (fun x6 h => ?_)
          refine lv_istore_n hx hb dX2_inState_34 rfl hl (Nat.le_of_ble_eq_true rfl) (lv' := [(2, .int x6), (0, .ref b), (1, .int p0), (3, .int y3)]) rfl (fun ls hl => ?_)
          refine gb_iinc (k' := 1) hx hb dX2_inState_35 hl (k := 3) rfl (by decide) (Nat.le_of_ble_eq_true rfl) h (fun x7 ls h hl => ?_)
          have hl : lv_has ls 4 [(3, .int x7), (2, .int x6), (0, .ref b), (1, .int p0)] := hl
          refine lv_goto hx hb dX2_inState_38 (tgt := 4) (by decide) ?_
          exact ihL1 _ _ h _ _ _ hG (lv_sub hl [2, 3, 1, 0] rfl)
        refine gb_icmp_ne hx hb dX2_inState_23 (tgt := 32) (by decide) h (fun h => ?_) (fun h => ?_)
        · refine lv_iconst (v := 0) hx hb dX2_inState_32 (by decide) ?_
          exact J2 _ (Option.some.inj h).symm _ _ _ hG (lv_sub hl [0, 1, 3] rfl)
        · refine lv_iconst (v := 1) hx hb dX2_inState_26 (by decide) ?_
          refine lv_iload_n hx hb dX2_inState_27 rfl (lv_at hl 3 rfl) ?_
          refine lv_ishl hx hb dX2_inState_28 ?_
          refine lv_goto hx hb dX2_inState_29 (tgt := 33) (by decide) ?_
          exact J2 _ (Option.some.inj h).symm _ _ _ hG (lv_sub hl [0, 1, 3] rfl)
  exact LL1 _ _ _ h _ _ _ hG (lv_sub hl [2, 3, 1, 0] rfl)
theorem k_X2_inState {own : String} {index : Nat} (hq : (Cond.methodLink own index yX2_inState) ∈ lw_all) (hF : gXK p m c cc nL s args own g A R rm) (hL0 : L0 ≤ b) (hsu : suOK g.2.1 su b d G0) (hsc : suAt b d G0 sc.1 (.inl (g.2.1 0, sc.2.1, .inl sc.2.2))) (hG : gJK g L0 A s.heap (sG g.2.1 b d (su.1 0) sc σ G0) n H locs) (hl : lv_has ls nL lv) (h1 : 2 + 1 ≤ rm.frames) (h2 : 8 + (4 + 11) + 40 ≤ rm.locals) {p0 : Int32} {f : Int32 → Option γ} (h : ob1 (c_X2_inState su σ p0) f = some o) (hc : cells ≤ rm.cells ∧ slots ≤ rm.slots) (hW : (rest.map fun v => v.category).sum ≤ 8) (hdg : decode cc pc = .ok (.invokevirtual index, 3))
    (kk : ∀ (r : Int32) (H1 : Heap) (locs1 : List Loc), f r = some o → gJK g L0 A s.heap (sG g.2.1 b d (su.1 0) sc σ G0) n H1 locs1 → W p l e R s m args below meth c H1 locs1 cells slots Q (F0 m (pc + 3) ls (.int r :: rest))) : W p l e R s m args below meth c H locs cells slots Q (F0 m pc ls (.int p0 :: .ref b :: rest)) := by
  obtain ⟨r, hr, h⟩ := ob1_e h
  refine g_callV hF hG hl sG_0 (C := RX2) (T := TX2) (N := 26) rfl (w_X2_inState hL0 hsu hsc σ p0 hr) (cwV 1 hF.1.2.2.2.2 (lw_V hq q1533 q1534 q83 q1535) rfl rfl rfl (by decide +kernel) (g_room hF h1 h2)) rfl rfl hW hdg (hf0 hF.2.2.2.2 hc) (fun v G1 n1 H1 locs1 hR hG1 => ?_)
  obtain ⟨rfl, e2, e3⟩ := hR
  rw [e2, e3] at hG1
  exact kk r H1 locs1 h hG1
/-! X2_withMark -/
def c_X2_withMark_L1 (su : SU) (σ : SS) (p0 : Int32) : Nat → Int32 → Int32 → Option (Int32)
  | 0, _, _ => none
  | n + 1, y2, y3 =>
    if (U_n su) ≤ y3 then (
    some y2)
    else (
    ob1 (S_rd σ 6 y3) fun (v4 : Int32) =>
    ob1 (
    if v4 = p0 then (
    some (1 <<< (y3 &&& 31)))
    else (
    some (0 : Int32))) fun (z5 : Int32) =>
    nm (y2 ||| z5) fun (x6 : Int32) =>
    nm (y3 + 1) fun (x7 : Int32) =>
    c_X2_withMark_L1 su σ p0 n x6 x7)
def c_X2_withMark (su : SU) (σ : SS) (p0 : Int32) : Option (Int32) :=
ob1 (
c_X2_withMark_L1 su σ p0 4096 0 0) fun (z8 : Int32) =>
some z8
set_option maxRecDepth 100000 in
theorem w_X2_withMark {l : Launch} {g : gNum} {L0 b d sz : Nat} {su : SU} {sc : SC} {G0 : GH} (hL0 : L0 ≤ b) (hsu : suOK g.2.1 su b d G0) (hsc : suAt b d G0 sc.1 (.inl (g.2.1 0, sc.2.1, .inl sc.2.2))) (σ : SS) (p0 : Int32) {out : Int32} (h : c_X2_withMark su σ p0 = some out) : gMet l yX2_withMark (ws_ yX2_withMark cX2_withMark 4 (some .int)) g.1 clX L0 (gK g) [.ref b, .int p0] (sG g.2.1 b d (su.1 0) sc σ G0) sz 2 40 0 0 (fun v G n => v = some (.int out) ∧ G = sG g.2.1 b d (su.1 0) sc σ G0 ∧ n = sz) := by
  refine gMet.of (own := RX2) (gK_ok g) (by decide +kernel) (Nat.le_of_ble_eq_true rfl) rfl ?_
  intro p e R s m args below meth c A Q ls H hF hQ hin hG hl
  have hx := hF.1.1
  have hb := hF.1.2.1
  have hts := hF.1.2.2.2.2
  have hl : lv_has ls 4 [(0, .ref b), (1, .int p0)] := hl
  unfold c_X2_withMark at h
  refine lv_iconst (v := 0) hx hb dX2_withMark_0 (by decide) ?_
  refine lv_istore_n hx hb dX2_withMark_1 rfl hl (Nat.le_of_ble_eq_true rfl) (lv' := [(2, .int 0), (0, .ref b), (1, .int p0)]) rfl (fun ls hl => ?_)
  refine lv_iconst (v := 0) hx hb dX2_withMark_2 (by decide) ?_
  refine lv_istore_n hx hb dX2_withMark_3 rfl hl (Nat.le_of_ble_eq_true rfl) (lv' := [(3, .int 0), (2, .int 0), (0, .ref b), (1, .int p0)]) rfl (fun ls hl => ?_)
  obtain ⟨X1, h, hJ1⟩ := ob1_u h
  have J1 : ∀ (z8 : Int32), X1 = z8 → ∀ (H : Heap) (locs : List Loc) (ls : Array Slot), gJK g L0 A s.heap (sG g.2.1 b d (su.1 0) sc σ G0) sz H locs → lv_has ls 4 [(2, .int z8)] → W p l e R s m args below meth c H locs 0 0 Q (F0 m 41 ls []) := by
    intro z8 e0 H locs ls hG hl
    have h := hJ1 z8 e0
    refine lv_iload_n hx hb dX2_withMark_41 rfl (lv_at hl 0 rfl) ?_
    have h := Option.some.inj h
    subst h
    exact g_iret hQ hG ⟨rfl, rfl, rfl⟩ (Nat.le_of_ble_eq_true rfl) (Nat.le_of_ble_eq_true rfl) dX2_withMark_42
  have LL1 : ∀ (n : Nat) (y2 : Int32) (y3 : Int32), c_X2_withMark_L1 su σ p0 n y2 y3 = some X1 → ∀ (H : Heap) (locs : List Loc) (ls : Array Slot), gJK g L0 A s.heap (sG g.2.1 b d (su.1 0) sc σ G0) sz H locs → lv_has ls 4 [(0, .ref b), (1, .int p0), (2, .int y2), (3, .int y3)] → W p l e R s m args below meth c H locs 0 0 Q (F0 m 4 ls []) := by
    intro n
    induction n with
    | zero =>
      intro y2 y3 h
      rw [c_X2_withMark_L1] at h
      cases h
    | succ n ihL1 =>
      intro y2 y3 h H locs ls hG hl
      rw [c_X2_withMark_L1] at h
      refine lv_iload_n hx hb dX2_withMark_4 rfl (lv_at hl 3 rfl) ?_
      refine lv_aload_n hx hb dX2_withMark_5 rfl (lv_at hl 0 rfl) ?_
      refine g_get hF hG sG_0 (C := RX2) (T := TX2) (N := 26) rfl in_X2 0 (by decide) q589 (fun _ h => h) (v := .ref (su.1 0)) rfl dX2_withMark_6 ?_
      refine ks_size q693 hF (su_of hsu) hG hl (Nat.le_of_ble_eq_true rfl) (Nat.le_of_ble_eq_true rfl) ⟨Nat.le_of_ble_eq_true rfl, Nat.le_of_ble_eq_true rfl⟩ (Nat.le_of_ble_eq_true rfl) dX2_withMark_9 (fun H locs hG => ?_)
      refine gb_icmp_ge hx hb dX2_withMark_12 (tgt := 41) (by decide) h (fun h => ?_) (fun h => ?_)
      · exact J1 _ (Option.some.inj h).symm _ _ _ hG (lv_sub hl [2] rfl)
      · refine lv_iload_n hx hb dX2_withMark_15 rfl (lv_at hl 2 rfl) ?_
        refine lv_aload_n hx hb dX2_withMark_16 rfl (lv_at hl 0 rfl) ?_
        refine g_get hF hG sG_0 (C := RX2) (T := TX2) (N := 26) rfl in_X2 6 (by decide) q600 (fun _ h => h) (v := .ref (b + d + 6)) rfl dX2_withMark_17 ?_
        refine lv_iload_n hx hb dX2_withMark_20 rfl (lv_at hl 3 rfl) ?_
        refine s_rd hF hG (j := 6) (by decide) h dX2_withMark_21 (fun v4 h => ?_)
        refine lv_iload_n hx hb dX2_withMark_22 rfl (lv_at hl 1 rfl) ?_
        obtain ⟨X2, h, hJ2⟩ := ob1_u h
        have J2 : ∀ (z5 : Int32), X2 = z5 → ∀ (H : Heap) (locs : List Loc) (ls : Array Slot), gJK g L0 A s.heap (sG g.2.1 b d (su.1 0) sc σ G0) sz H locs → lv_has ls 4 [(0, .ref b), (1, .int p0), (3, .int y3)] → W p l e R s m args below meth c H locs 0 0 Q (F0 m 33 ls [.int z5, .int y2]) := by
          intro z5 e0 H locs ls hG hl
          have h := hJ2 z5 e0
          refine lv_ior hx hb dX2_withMark_33 ?_
          refine gb_nm h (fun x6 h => ?_)
          refine lv_istore_n hx hb dX2_withMark_34 rfl hl (Nat.le_of_ble_eq_true rfl) (lv' := [(2, .int x6), (0, .ref b), (1, .int p0), (3, .int y3)]) rfl (fun ls hl => ?_)
          refine gb_iinc (k' := 1) hx hb dX2_withMark_35 hl (k := 3) rfl (by decide) (Nat.le_of_ble_eq_true rfl) h (fun x7 ls h hl => ?_)
          have hl : lv_has ls 4 [(3, .int x7), (2, .int x6), (0, .ref b), (1, .int p0)] := hl
          refine lv_goto hx hb dX2_withMark_38 (tgt := 4) (by decide) ?_
          exact ihL1 _ _ h _ _ _ hG (lv_sub hl [2, 3, 1, 0] rfl)
        refine gb_icmp_ne hx hb dX2_withMark_23 (tgt := 32) (by decide) h (fun h => ?_) (fun h => ?_)
        · refine lv_iconst (v := 0) hx hb dX2_withMark_32 (by decide) ?_
          exact J2 _ (Option.some.inj h).symm _ _ _ hG (lv_sub hl [0, 1, 3] rfl)
        · refine lv_iconst (v := 1) hx hb dX2_withMark_26 (by decide) ?_
          refine lv_iload_n hx hb dX2_withMark_27 rfl (lv_at hl 3 rfl) ?_
          refine lv_ishl hx hb dX2_withMark_28 ?_
          refine lv_goto hx hb dX2_withMark_29 (tgt := 33) (by decide) ?_
          exact J2 _ (Option.some.inj h).symm _ _ _ hG (lv_sub hl [0, 1, 3] rfl)
  exact LL1 _ _ _ h _ _ _ hG (lv_sub hl [2, 3, 1, 0] rfl)
theorem k_X2_withMark {own : String} {index : Nat} (hq : (Cond.methodLink own index yX2_withMark) ∈ lw_all) (hF : gXK p m c cc nL s args own g A R rm) (hL0 : L0 ≤ b) (hsu : suOK g.2.1 su b d G0) (hsc : suAt b d G0 sc.1 (.inl (g.2.1 0, sc.2.1, .inl sc.2.2))) (hG : gJK g L0 A s.heap (sG g.2.1 b d (su.1 0) sc σ G0) n H locs) (hl : lv_has ls nL lv) (h1 : 2 + 1 ≤ rm.frames) (h2 : 8 + (4 + 11) + 40 ≤ rm.locals) {p0 : Int32} {f : Int32 → Option γ} (h : ob1 (c_X2_withMark su σ p0) f = some o) (hc : cells ≤ rm.cells ∧ slots ≤ rm.slots) (hW : (rest.map fun v => v.category).sum ≤ 8) (hdg : decode cc pc = .ok (.invokevirtual index, 3))
    (kk : ∀ (r : Int32) (H1 : Heap) (locs1 : List Loc), f r = some o → gJK g L0 A s.heap (sG g.2.1 b d (su.1 0) sc σ G0) n H1 locs1 → W p l e R s m args below meth c H1 locs1 cells slots Q (F0 m (pc + 3) ls (.int r :: rest))) : W p l e R s m args below meth c H locs cells slots Q (F0 m pc ls (.int p0 :: .ref b :: rest)) := by
  obtain ⟨r, hr, h⟩ := ob1_e h
  refine g_callV hF hG hl sG_0 (C := RX2) (T := TX2) (N := 26) rfl (w_X2_withMark hL0 hsu hsc σ p0 hr) (cwV 1 hF.1.2.2.2.2 (lw_V hq q805 q806 q83 q807) rfl rfl rfl (by decide +kernel) (g_room hF h1 h2)) rfl rfl hW hdg (hf0 hF.2.2.2.2 hc) (fun v G1 n1 H1 locs1 hR hG1 => ?_)
  obtain ⟨rfl, e2, e3⟩ := hR
  rw [e2, e3] at hG1
  exact kk r H1 locs1 h hG1
/-! X2_rights -/
def c_X2_rights_L4 (su : SU) (σ : SS) : Nat → Int32 → Int32 → Option (Int32)
  | 0, _, _ => none
  | n + 1, y5, y6 =>
    if (U_n su) ≤ y6 then (
    some y5)
    else (
    ob1 (j_X1_has (σ.1 13) y6) fun (v7 : Int32) =>
    ob1 (
    if v7 = 0 then (
    some (0 : Int32))
    else (
    ob1 (U_at su y6) fun (i8 : Nat) =>
    if (σ.1 17) < (U_o su i8 2) then (
    some (0 : Int32))
    else (
    ob1 (U_need su y6) fun (v9 : Int32) =>
    if (v9 &&& (y5 ^^^ (-1))) = 0 then (
    some (1 : Int32))
    else (
    some (0 : Int32))))) fun (z10 : Int32) =>
    ob1 (
    if z10 = 0 then (
    some (0 : Int32))
    else (
    some (1 <<< (y6 &&& 31)))) fun (z11 : Int32) =>
    nm (y5 ||| z11) fun (x12 : Int32) =>
    nm (y6 + 1) fun (x13 : Int32) =>
    c_X2_rights_L4 su σ n x12 x13)
def c_X2_rights_L1 (su : SU) (σ : SS) : Nat → Int32 → Int32 → Option (Int32)
  | 0, _, _ => none
  | n + 1, y2, y3 =>
    if y2 = y3 then (
    some y2)
    else (
    ob1 (
    c_X2_rights_L4 su σ 4096 y2 0) fun (z14 : Int32) =>
    c_X2_rights_L1 su σ n z14 y2)
def c_X2_rights (su : SU) (σ : SS) : Option (Int32) :=
ob1 (
c_X2_rights_L1 su σ 4096 0 (-1)) fun (z15 : Int32) =>
some z15
set_option maxRecDepth 100000 in
theorem w_X2_rights {l : Launch} {g : gNum} {L0 b d sz : Nat} {su : SU} {sc : SC} {G0 : GH} (hL0 : L0 ≤ b) (hsu : suOK g.2.1 su b d G0) (hsc : suAt b d G0 sc.1 (.inl (g.2.1 0, sc.2.1, .inl sc.2.2))) (σ : SS) {out : Int32} (h : c_X2_rights su σ = some out) : gMet l yX2_rights (ws_ yX2_rights cX2_rights 5 (some .int)) g.1 clX L0 (gK g) [.ref b] (sG g.2.1 b d (su.1 0) sc σ G0) sz 4 85 0 0 (fun v G n => v = some (.int out) ∧ G = sG g.2.1 b d (su.1 0) sc σ G0 ∧ n = sz) := by
  refine gMet.of (own := RX2) (gK_ok g) (by decide +kernel) (Nat.le_of_ble_eq_true rfl) rfl ?_
  intro p e R s m args below meth c A Q ls H hF hQ hin hG hl
  have hx := hF.1.1
  have hb := hF.1.2.1
  have hts := hF.1.2.2.2.2
  have hl : lv_has ls 5 [(0, .ref b)] := hl
  unfold c_X2_rights at h
  refine lv_iconst (v := 0) hx hb dX2_rights_0 (by decide) ?_
  refine lv_istore_n hx hb dX2_rights_1 rfl hl (Nat.le_of_ble_eq_true rfl) (lv' := [(1, .int 0), (0, .ref b)]) rfl (fun ls hl => ?_)
  refine lv_iconst (v := (-1)) hx hb dX2_rights_2 (by decide) ?_
  refine lv_istore_n hx hb dX2_rights_3 rfl hl (Nat.le_of_ble_eq_true rfl) (lv' := [(2, .int (-1)), (1, .int 0), (0, .ref b)]) rfl (fun ls hl => ?_)
  obtain ⟨X1, h, hJ1⟩ := ob1_u h
  have J1 : ∀ (z15 : Int32), X1 = z15 → ∀ (H : Heap) (locs : List Loc) (ls : Array Slot), gJK g L0 A s.heap (sG g.2.1 b d (su.1 0) sc σ G0) sz H locs → lv_has ls 5 [(1, .int z15)] → W p l e R s m args below meth c H locs 0 0 Q (F0 m 97 ls []) := by
    intro z15 e0 H locs ls hG hl
    have h := hJ1 z15 e0
    refine lv_iload_n hx hb dX2_rights_97 rfl (lv_at hl 0 rfl) ?_
    have h := Option.some.inj h
    subst h
    exact g_iret hQ hG ⟨rfl, rfl, rfl⟩ (Nat.le_of_ble_eq_true rfl) (Nat.le_of_ble_eq_true rfl) dX2_rights_98
  have LL1 : ∀ (n : Nat) (y2 : Int32) (y3 : Int32), c_X2_rights_L1 su σ n y2 y3 = some X1 → ∀ (H : Heap) (locs : List Loc) (ls : Array Slot), gJK g L0 A s.heap (sG g.2.1 b d (su.1 0) sc σ G0) sz H locs → lv_has ls 5 [(0, .ref b), (1, .int y2), (2, .int y3)] → W p l e R s m args below meth c H locs 0 0 Q (F0 m 4 ls []) := by
    intro n
    induction n with
    | zero =>
      intro y2 y3 h
      rw [c_X2_rights_L1] at h
      cases h
    | succ n ihL1 =>
      intro y2 y3 h H locs ls hG hl
      rw [c_X2_rights_L1] at h
      refine lv_iload_n hx hb dX2_rights_4 rfl (lv_at hl 1 rfl) ?_
      refine lv_iload_n hx hb dX2_rights_5 rfl (lv_at hl 2 rfl) ?_
      refine gb_icmp_eq hx hb dX2_rights_6 (tgt := 97) (by decide) h (fun h => ?_) (fun h => ?_)
      · exact J1 _ (Option.some.inj h).symm _ _ _ hG (lv_sub hl [1] rfl)
      · refine lv_iload_n hx hb dX2_rights_9 rfl (lv_at hl 1 rfl) ?_
        refine lv_istore_n hx hb dX2_rights_10 rfl hl (Nat.le_of_ble_eq_true rfl) (lv' := [(2, .int y2), (0, .ref b), (1, .int y2)]) rfl (fun ls hl => ?_)
        refine lv_iconst (v := 0) hx hb dX2_rights_11 (by decide) ?_
        refine lv_istore_n hx hb dX2_rights_12 rfl hl (Nat.le_of_ble_eq_true rfl) (lv' := [(3, .int 0), (2, .int y2), (0, .ref b), (1, .int y2)]) rfl (fun ls hl => ?_)
        obtain ⟨X2, h, hJ2⟩ := ob1_u h
        have J2 : ∀ (z14 : Int32), X2 = z14 → ∀ (H : Heap) (locs : List Loc) (ls : Array Slot), gJK g L0 A s.heap (sG g.2.1 b d (su.1 0) sc σ G0) sz H locs → lv_has ls 5 [(0, .ref b), (1, .int z14), (2, .int y2)] → W p l e R s m args below meth c H locs 0 0 Q (F0 m 94 ls []) := by
          intro z14 e0 H locs ls hG hl
          have h := hJ2 z14 e0
          refine lv_goto hx hb dX2_rights_94 (tgt := 4) (by decide) ?_
          exact ihL1 _ _ h _ _ _ hG hl
        have LL4 : ∀ (n : Nat) (y5 : Int32) (y6 : Int32), c_X2_rights_L4 su σ n y5 y6 = some X2 → ∀ (H : Heap) (locs : List Loc) (ls : Array Slot), gJK g L0 A s.heap (sG g.2.1 b d (su.1 0) sc σ G0) sz H locs → lv_has ls 5 [(0, .ref b), (1, .int y5), (2, .int y2), (3, .int y6)] → W p l e R s m args below meth c H locs 0 0 Q (F0 m 13 ls []) := by
          intro n
          induction n with
          | zero =>
            intro y5 y6 h
            rw [c_X2_rights_L4] at h
            cases h
          | succ n ihL4 =>
            intro y5 y6 h H locs ls hG hl
            rw [c_X2_rights_L4] at h
            refine lv_iload_n hx hb dX2_rights_13 rfl (lv_at hl 3 rfl) ?_
            refine lv_aload_n hx hb dX2_rights_14 rfl (lv_at hl 0 rfl) ?_
            refine g_get hF hG sG_0 (C := RX2) (T := TX2) (N := 26) rfl in_X2 0 (by decide) q589 (fun _ h => h) (v := .ref (su.1 0)) rfl dX2_rights_15 ?_
            refine ks_size q693 hF (su_of hsu) hG hl (Nat.le_of_ble_eq_true rfl) (Nat.le_of_ble_eq_true rfl) ⟨Nat.le_of_ble_eq_true rfl, Nat.le_of_ble_eq_true rfl⟩ (Nat.le_of_ble_eq_true rfl) dX2_rights_18 (fun H locs hG => ?_)
            refine gb_icmp_ge hx hb dX2_rights_21 (tgt := 94) (by decide) h (fun h => ?_) (fun h => ?_)
            · exact J2 _ (Option.some.inj h).symm _ _ _ hG (lv_sub hl [0, 1, 2] rfl)
            · refine lv_aload_n hx hb dX2_rights_24 rfl (lv_at hl 0 rfl) ?_
              refine g_get hF hG sG_0 (C := RX2) (T := TX2) (N := 26) rfl in_X2 13 (by decide) q612 (fun _ h => h) (v := .int (σ.1 13)) rfl dX2_rights_25 ?_
              refine lv_iload_n hx hb dX2_rights_28 rfl (lv_at hl 3 rfl) ?_
              refine ks_hasN q707 hF hG hl (Nat.le_of_ble_eq_true rfl) (Nat.le_of_ble_eq_true rfl) h ⟨Nat.le_of_ble_eq_true rfl, Nat.le_of_ble_eq_true rfl⟩ (Nat.le_of_ble_eq_true rfl) dX2_rights_29 (fun v7 H locs h hG => ?_)
              obtain ⟨X3, h, hJ3⟩ := ob1_u h
              have J3 : ∀ (z10 : Int32), X3 = z10 → ∀ (H : Heap) (locs : List Loc) (ls : Array Slot), gJK g L0 A s.heap (sG g.2.1 b d (su.1 0) sc σ G0) sz H locs → lv_has ls 5 [(0, .ref b), (1, .int y5), (2, .int y2), (3, .int y6)] → W p l e R s m args below meth c H locs 0 0 Q (F0 m 71 ls [.int z10]) := by
                intro z10 e0 H locs ls hG hl
                have h := hJ3 z10 e0
                refine lv_istore hx hb dX2_rights_71 hl (Nat.le_of_ble_eq_true rfl) (lv' := [(4, .int z10), (0, .ref b), (1, .int y5), (2, .int y2), (3, .int y6)]) rfl (fun ls hl => ?_)
                refine lv_iload_n hx hb dX2_rights_73 rfl (lv_at hl 2 rfl) ?_
                refine lv_iload hx hb dX2_rights_74 (lv_at hl 0 rfl) ?_
                obtain ⟨X4, h, hJ4⟩ := ob1_u h
                have J4 : ∀ (z11 : Int32), X4 = z11 → ∀ (H : Heap) (locs : List Loc) (ls : Array Slot), gJK g L0 A s.heap (sG g.2.1 b d (su.1 0) sc σ G0) sz H locs → lv_has ls 5 [(0, .ref b), (2, .int y2), (3, .int y6)] → W p l e R s m args below meth c H locs 0 0 Q (F0 m 86 ls [.int z11, .int y5]) := by
                  intro z11 e0 H locs ls hG hl
                  have h := hJ4 z11 e0
                  refine lv_ior hx hb dX2_rights_86 ?_
                  refine gb_nm h (fun x12 h => ?_)
                  refine lv_istore_n hx hb dX2_rights_87 rfl hl (Nat.le_of_ble_eq_true rfl) (lv' := [(1, .int x12), (0, .ref b), (2, .int y2), (3, .int y6)]) rfl (fun ls hl => ?_)
                  refine gb_iinc (k' := 1) hx hb dX2_rights_88 hl (k := 3) rfl (by decide) (Nat.le_of_ble_eq_true rfl) h (fun x13 ls h hl => ?_)
                  have hl : lv_has ls 5 [(3, .int x13), (1, .int x12), (0, .ref b), (2, .int y2)] := hl
                  refine lv_goto hx hb dX2_rights_91 (tgt := 13) (by decide) ?_
                  exact ihL4 _ _ h _ _ _ hG (lv_sub hl [2, 1, 3, 0] rfl)
                refine gb_if_eq hx hb dX2_rights_76 (tgt := 85) (by decide) h (fun h => ?_) (fun h => ?_)
                · refine lv_iconst (v := 0) hx hb dX2_rights_85 (by decide) ?_
                  exact J4 _ (Option.some.inj h).symm _ _ _ hG (lv_sub hl [1, 3, 4] rfl)
                · refine lv_iconst (v := 1) hx hb dX2_rights_79 (by decide) ?_
                  refine lv_iload_n hx hb dX2_rights_80 rfl (lv_at hl 4 rfl) ?_
                  refine lv_ishl hx hb dX2_rights_81 ?_
                  refine lv_goto hx hb dX2_rights_82 (tgt := 86) (by decide) ?_
                  exact J4 _ (Option.some.inj h).symm _ _ _ hG (lv_sub hl [1, 3, 4] rfl)
              refine gb_if_eq hx hb dX2_rights_32 (tgt := 70) (by decide) h (fun h => ?_) (fun h => ?_)
              · refine lv_iconst (v := 0) hx hb dX2_rights_70 (by decide) ?_
                exact J3 _ (Option.some.inj h).symm _ _ _ hG hl
              · refine lv_aload_n hx hb dX2_rights_35 rfl (lv_at hl 0 rfl) ?_
                refine lv_iload_n hx hb dX2_rights_36 rfl (lv_at hl 3 rfl) ?_
                refine ks_at q788 hF hsu hG hl (Nat.le_of_ble_eq_true rfl) (Nat.le_of_ble_eq_true rfl) h ⟨Nat.le_of_ble_eq_true rfl, Nat.le_of_ble_eq_true rfl⟩ (Nat.le_of_ble_eq_true rfl) dX2_rights_37 (fun i8 H locs hi_i8 h hG => ?_)
                refine ks_out hF (su_of hsu) hG hi_i8 2 (by decide) rfl q1244 dX2_rights_40 ?_
                refine lv_aload_n hx hb dX2_rights_43 rfl (lv_at hl 0 rfl) ?_
                refine g_get hF hG sG_0 (C := RX2) (T := TX2) (N := 26) rfl in_X2 17 (by decide) q618 (fun _ h => h) (v := .int (σ.1 17)) rfl dX2_rights_44 ?_
                refine gb_icmp_gt hx hb dX2_rights_47 (tgt := 70) (by decide) h (fun h => ?_) (fun h => ?_)
                · refine lv_iconst (v := 0) hx hb dX2_rights_70 (by decide) ?_
                  exact J3 _ (Option.some.inj h).symm _ _ _ hG hl
                · refine lv_aload_n hx hb dX2_rights_50 rfl (lv_at hl 0 rfl) ?_
                  refine g_get hF hG sG_0 (C := RX2) (T := TX2) (N := 26) rfl in_X2 0 (by decide) q589 (fun _ h => h) (v := .ref (su.1 0)) rfl dX2_rights_51 ?_
                  refine g_getN hF hG hsu.1.rd (C := RX3) (T := TX3) (N := 10) rfl in_X3 2 (by decide) q495 (fun _ h => h) (v := .ref (su.1 3)) rfl dX2_rights_54 ?_
                  refine lv_iload_n hx hb dX2_rights_57 rfl (lv_at hl 3 rfl) ?_
                  refine ks_need hF (su_of hsu) hG h dX2_rights_58 (fun v9 h => ?_)
                  refine lv_iload_n hx hb dX2_rights_59 rfl (lv_at hl 1 rfl) ?_
                  refine lv_iconst (v := (-1)) hx hb dX2_rights_60 (by decide) ?_
                  refine lv_ixor hx hb dX2_rights_61 ?_
                  refine lv_iand hx hb dX2_rights_62 ?_
                  refine gb_if_ne hx hb dX2_rights_63 (tgt := 70) (by decide) h (fun h => ?_) (fun h => ?_)
                  · refine lv_iconst (v := 0) hx hb dX2_rights_70 (by decide) ?_
                    exact J3 _ (Option.some.inj h).symm _ _ _ hG hl
                  · refine lv_iconst (v := 1) hx hb dX2_rights_66 (by decide) ?_
                    refine lv_goto hx hb dX2_rights_67 (tgt := 71) (by decide) ?_
                    exact J3 _ (Option.some.inj h).symm _ _ _ hG hl
        exact LL4 _ _ _ h _ _ _ hG (lv_sub hl [2, 3, 1, 0] rfl)
  exact LL1 _ _ _ h _ _ _ hG (lv_sub hl [2, 1, 0] rfl)
theorem k_X2_rights {own : String} {index : Nat} (hq : (Cond.methodLink own index yX2_rights) ∈ lw_all) (hF : gXK p m c cc nL s args own g A R rm) (hL0 : L0 ≤ b) (hsu : suOK g.2.1 su b d G0) (hsc : suAt b d G0 sc.1 (.inl (g.2.1 0, sc.2.1, .inl sc.2.2))) (hG : gJK g L0 A s.heap (sG g.2.1 b d (su.1 0) sc σ G0) n H locs) (hl : lv_has ls nL lv) (h1 : 4 + 1 ≤ rm.frames) (h2 : 8 + (5 + 11) + 85 ≤ rm.locals) {f : Int32 → Option γ} (h : ob1 (c_X2_rights su σ) f = some o) (hc : cells ≤ rm.cells ∧ slots ≤ rm.slots) (hW : (rest.map fun v => v.category).sum ≤ 8) (hdg : decode cc pc = .ok (.invokevirtual index, 3))
    (kk : ∀ (r : Int32) (H1 : Heap) (locs1 : List Loc), f r = some o → gJK g L0 A s.heap (sG g.2.1 b d (su.1 0) sc σ G0) n H1 locs1 → W p l e R s m args below meth c H1 locs1 cells slots Q (F0 m (pc + 3) ls (.int r :: rest))) : W p l e R s m args below meth c H locs cells slots Q (F0 m pc ls (.ref b :: rest)) := by
  obtain ⟨r, hr, h⟩ := ob1_e h
  refine g_callV hF hG hl sG_0 (C := RX2) (T := TX2) (N := 26) rfl (w_X2_rights hL0 hsu hsc σ hr) (cwV 0 hF.1.2.2.2.2 (lw_V hq q785 q786 q83 q787) rfl rfl rfl (by decide +kernel) (g_room hF h1 h2)) rfl rfl hW hdg (hf0 hF.2.2.2.2 hc) (fun v G1 n1 H1 locs1 hR hG1 => ?_)
  obtain ⟨rfl, e2, e3⟩ := hR
  rw [e2, e3] at hG1
  exact kk r H1 locs1 h hG1
/-! X2_isDark -/
def c_X2_isDark (σ : SS) : Option (Int32) :=
if (σ.1 20) ≤ (σ.1 19) then (
some 0)
else (
some 1)
set_option maxRecDepth 100000 in
theorem w_X2_isDark {l : Launch} {g : gNum} {L0 b d sz : Nat} {su : SU} {sc : SC} {G0 : GH} (hL0 : L0 ≤ b) (hsu : suOK g.2.1 su b d G0) (hsc : suAt b d G0 sc.1 (.inl (g.2.1 0, sc.2.1, .inl sc.2.2))) (σ : SS) {out : Int32} (h : c_X2_isDark σ = some out) : gMet l yX2_isDark (ws_ yX2_isDark cX2_isDark 1 (some .boolean)) g.1 clX L0 (gK g) [.ref b] (sG g.2.1 b d (su.1 0) sc σ G0) sz 0 0 0 0 (fun v G n => v = some (.int out) ∧ G = sG g.2.1 b d (su.1 0) sc σ G0 ∧ n = sz) := by
  refine gMet.of (own := RX2) (gK_ok g) (by decide +kernel) (Nat.le_of_ble_eq_true rfl) rfl ?_
  intro p e R s m args below meth c A Q ls H hF hQ hin hG hl
  have hx := hF.1.1
  have hb := hF.1.2.1
  have hts := hF.1.2.2.2.2
  have hl : lv_has ls 1 [(0, .ref b)] := hl
  unfold c_X2_isDark at h
  refine lv_aload_n hx hb dX2_isDark_0 rfl (lv_at hl 0 rfl) ?_
  refine g_get hF hG sG_0 (C := RX2) (T := TX2) (N := 26) rfl in_X2 19 (by decide) q622 (fun _ h => h) (v := .int (σ.1 19)) rfl dX2_isDark_1 ?_
  refine lv_aload_n hx hb dX2_isDark_4 rfl (lv_at hl 0 rfl) ?_
  refine g_get hF hG sG_0 (C := RX2) (T := TX2) (N := 26) rfl in_X2 20 (by decide) q624 (fun _ h => h) (v := .int (σ.1 20)) rfl dX2_isDark_5 ?_
  refine gb_icmp_ge hx hb dX2_isDark_8 (tgt := 15) (by decide) h (fun h => ?_) (fun h => ?_)
  · refine lv_iconst (v := 0) hx hb dX2_isDark_15 (by decide) ?_
    have h := Option.some.inj h
    subst h
    exact g_zret hQ hG (by decide) ⟨rfl, rfl, rfl⟩ (Nat.le_of_ble_eq_true rfl) (Nat.le_of_ble_eq_true rfl) dX2_isDark_16
  · refine lv_iconst (v := 1) hx hb dX2_isDark_11 (by decide) ?_
    refine lv_goto hx hb dX2_isDark_12 (tgt := 16) (by decide) ?_
    have h := Option.some.inj h
    subst h
    exact g_zret hQ hG (by decide) ⟨rfl, rfl, rfl⟩ (Nat.le_of_ble_eq_true rfl) (Nat.le_of_ble_eq_true rfl) dX2_isDark_16
theorem k_X2_isDark {own : String} {index : Nat} (hq : (Cond.methodLink own index yX2_isDark) ∈ lw_all) (hF : gXK p m c cc nL s args own g A R rm) (hL0 : L0 ≤ b) (hsu : suOK g.2.1 su b d G0) (hsc : suAt b d G0 sc.1 (.inl (g.2.1 0, sc.2.1, .inl sc.2.2))) (hG : gJK g L0 A s.heap (sG g.2.1 b d (su.1 0) sc σ G0) n H locs) (hl : lv_has ls nL lv) (h1 : 0 + 1 ≤ rm.frames) (h2 : 8 + (1 + 11) + 0 ≤ rm.locals) {f : Int32 → Option γ} (h : ob1 (c_X2_isDark σ) f = some o) (hc : cells ≤ rm.cells ∧ slots ≤ rm.slots) (hW : (rest.map fun v => v.category).sum ≤ 8) (hdg : decode cc pc = .ok (.invokevirtual index, 3))
    (kk : ∀ (r : Int32) (H1 : Heap) (locs1 : List Loc), f r = some o → gJK g L0 A s.heap (sG g.2.1 b d (su.1 0) sc σ G0) n H1 locs1 → W p l e R s m args below meth c H1 locs1 cells slots Q (F0 m (pc + 3) ls (.int r :: rest))) : W p l e R s m args below meth c H locs cells slots Q (F0 m pc ls (.ref b :: rest)) := by
  obtain ⟨r, hr, h⟩ := ob1_e h
  refine g_callV hF hG hl sG_0 (C := RX2) (T := TX2) (N := 26) rfl (w_X2_isDark hL0 hsu hsc σ hr) (cwV 0 hF.1.2.2.2.2 (lw_V hq q1487 q1488 q83 q1489) rfl rfl rfl (by decide +kernel) (g_room hF h1 h2)) rfl rfl hW hdg (hf0 hF.2.2.2.2 hc) (fun v G1 n1 H1 locs1 hR hG1 => ?_)
  obtain ⟨rfl, e2, e3⟩ := hR
  rw [e2, e3] at hG1
  exact kk r H1 locs1 h hG1
/-! X2_draw -/
def c_X2_draw (su : SU) (σ : SS) (p0 : Int32) : Option (Int32) :=
ob1 (S_rd σ 1 p0) fun (v1 : Int32) =>
if v1 = 2 then (
ob1 (U_at su p0) fun (i4 : Nat) =>
some (U_o su i4 3))
else (
ob1 (S_rd σ 1 p0) fun (v2 : Int32) =>
if v2 = 3 then (
ob1 (U_at su p0) fun (i3 : Nat) =>
some (U_o su i3 1))
else (
some 0))
set_option maxRecDepth 100000 in
theorem w_X2_draw {l : Launch} {g : gNum} {L0 b d sz : Nat} {su : SU} {sc : SC} {G0 : GH} (hL0 : L0 ≤ b) (hsu : suOK g.2.1 su b d G0) (hsc : suAt b d G0 sc.1 (.inl (g.2.1 0, sc.2.1, .inl sc.2.2))) (σ : SS) (p0 : Int32) {out : Int32} (h : c_X2_draw su σ p0 = some out) : gMet l yX2_draw (ws_ yX2_draw cX2_draw 2 (some .int)) g.1 clX L0 (gK g) [.ref b, .int p0] (sG g.2.1 b d (su.1 0) sc σ G0) sz 4 85 0 0 (fun v G n => v = some (.int out) ∧ G = sG g.2.1 b d (su.1 0) sc σ G0 ∧ n = sz) := by
  refine gMet.of (own := RX2) (gK_ok g) (by decide +kernel) (Nat.le_of_ble_eq_true rfl) rfl ?_
  intro p e R s m args below meth c A Q ls H hF hQ hin hG hl
  have hx := hF.1.1
  have hb := hF.1.2.1
  have hts := hF.1.2.2.2.2
  have hl : lv_has ls 2 [(0, .ref b), (1, .int p0)] := hl
  unfold c_X2_draw at h
  refine lv_aload_n hx hb dX2_draw_0 rfl (lv_at hl 0 rfl) ?_
  refine g_get hF hG sG_0 (C := RX2) (T := TX2) (N := 26) rfl in_X2 1 (by decide) q591 (fun _ h => h) (v := .ref (b + d + 1)) rfl dX2_draw_1 ?_
  refine lv_iload_n hx hb dX2_draw_4 rfl (lv_at hl 1 rfl) ?_
  refine s_rd hF hG (j := 1) (by decide) h dX2_draw_5 (fun v1 h => ?_)
  refine lv_iconst (v := 2) hx hb dX2_draw_6 (by decide) ?_
  refine gb_icmp_ne hx hb dX2_draw_7 (tgt := 21) (by decide) h (fun h => ?_) (fun h => ?_)
  · refine lv_aload_n hx hb dX2_draw_21 rfl (lv_at hl 0 rfl) ?_
    refine g_get hF hG sG_0 (C := RX2) (T := TX2) (N := 26) rfl in_X2 1 (by decide) q591 (fun _ h => h) (v := .ref (b + d + 1)) rfl dX2_draw_22 ?_
    refine lv_iload_n hx hb dX2_draw_25 rfl (lv_at hl 1 rfl) ?_
    refine s_rd hF hG (j := 1) (by decide) h dX2_draw_26 (fun v2 h => ?_)
    refine lv_iconst (v := 3) hx hb dX2_draw_27 (by decide) ?_
    refine gb_icmp_ne hx hb dX2_draw_28 (tgt := 42) (by decide) h (fun h => ?_) (fun h => ?_)
    · refine lv_iconst (v := 0) hx hb dX2_draw_42 (by decide) ?_
      have h := Option.some.inj h
      subst h
      exact g_iret hQ hG ⟨rfl, rfl, rfl⟩ (Nat.le_of_ble_eq_true rfl) (Nat.le_of_ble_eq_true rfl) dX2_draw_43
    · refine lv_aload_n hx hb dX2_draw_31 rfl (lv_at hl 0 rfl) ?_
      refine lv_iload_n hx hb dX2_draw_32 rfl (lv_at hl 1 rfl) ?_
      refine ks_at q788 hF hsu hG hl (Nat.le_of_ble_eq_true rfl) (Nat.le_of_ble_eq_true rfl) h ⟨Nat.le_of_ble_eq_true rfl, Nat.le_of_ble_eq_true rfl⟩ (Nat.le_of_ble_eq_true rfl) dX2_draw_33 (fun i3 H locs hi_i3 h hG => ?_)
      refine ks_out hF (su_of hsu) hG hi_i3 1 (by decide) rfl q1241 dX2_draw_36 ?_
      refine lv_goto hx hb dX2_draw_39 (tgt := 43) (by decide) ?_
      have h := Option.some.inj h
      subst h
      exact g_iret hQ hG ⟨rfl, rfl, rfl⟩ (Nat.le_of_ble_eq_true rfl) (Nat.le_of_ble_eq_true rfl) dX2_draw_43
  · refine lv_aload_n hx hb dX2_draw_10 rfl (lv_at hl 0 rfl) ?_
    refine lv_iload_n hx hb dX2_draw_11 rfl (lv_at hl 1 rfl) ?_
    refine ks_at q788 hF hsu hG hl (Nat.le_of_ble_eq_true rfl) (Nat.le_of_ble_eq_true rfl) h ⟨Nat.le_of_ble_eq_true rfl, Nat.le_of_ble_eq_true rfl⟩ (Nat.le_of_ble_eq_true rfl) dX2_draw_12 (fun i4 H locs hi_i4 h hG => ?_)
    refine ks_out hF (su_of hsu) hG hi_i4 3 (by decide) rfl q1247 dX2_draw_15 ?_
    refine lv_goto hx hb dX2_draw_18 (tgt := 43) (by decide) ?_
    have h := Option.some.inj h
    subst h
    exact g_iret hQ hG ⟨rfl, rfl, rfl⟩ (Nat.le_of_ble_eq_true rfl) (Nat.le_of_ble_eq_true rfl) dX2_draw_43
theorem k_X2_draw {own : String} {index : Nat} (hq : (Cond.methodLink own index yX2_draw) ∈ lw_all) (hF : gXK p m c cc nL s args own g A R rm) (hL0 : L0 ≤ b) (hsu : suOK g.2.1 su b d G0) (hsc : suAt b d G0 sc.1 (.inl (g.2.1 0, sc.2.1, .inl sc.2.2))) (hG : gJK g L0 A s.heap (sG g.2.1 b d (su.1 0) sc σ G0) n H locs) (hl : lv_has ls nL lv) (h1 : 4 + 1 ≤ rm.frames) (h2 : 8 + (2 + 11) + 85 ≤ rm.locals) {p0 : Int32} {f : Int32 → Option γ} (h : ob1 (c_X2_draw su σ p0) f = some o) (hc : cells ≤ rm.cells ∧ slots ≤ rm.slots) (hW : (rest.map fun v => v.category).sum ≤ 8) (hdg : decode cc pc = .ok (.invokevirtual index, 3))
    (kk : ∀ (r : Int32) (H1 : Heap) (locs1 : List Loc), f r = some o → gJK g L0 A s.heap (sG g.2.1 b d (su.1 0) sc σ G0) n H1 locs1 → W p l e R s m args below meth c H1 locs1 cells slots Q (F0 m (pc + 3) ls (.int r :: rest))) : W p l e R s m args below meth c H locs cells slots Q (F0 m pc ls (.int p0 :: .ref b :: rest)) := by
  obtain ⟨r, hr, h⟩ := ob1_e h
  refine g_callV hF hG hl sG_0 (C := RX2) (T := TX2) (N := 26) rfl (w_X2_draw hL0 hsu hsc σ p0 hr) (cwV 1 hF.1.2.2.2.2 (lw_V hq q1548 q1549 q83 q1550) rfl rfl rfl (by decide +kernel) (g_room hF h1 h2)) rfl rfl hW hdg (hf0 hF.2.2.2.2 hc) (fun v G1 n1 H1 locs1 hR hG1 => ?_)
  obtain ⟨rfl, e2, e3⟩ := hR
  rw [e2, e3] at hG1
  exact kk r H1 locs1 h hG1
/-! X2_load -/
def c_X2_load_L1 (su : SU) (σ : SS) : Nat → Int32 → Int32 → Option (Int32)
  | 0, _, _ => none
  | n + 1, y2, y3 =>
    if (U_n su) ≤ y3 then (
    some y2)
    else (
    ob1 (c_X2_draw su σ y3) fun (v4 : Int32) =>
    nm (y2 + v4) fun (x5 : Int32) =>
    nm (y3 + 1) fun (x6 : Int32) =>
    c_X2_load_L1 su σ n x5 x6)
def c_X2_load (su : SU) (σ : SS) : Option (Int32) :=
ob1 (
c_X2_load_L1 su σ 4096 0 0) fun (z7 : Int32) =>
some z7
set_option maxRecDepth 100000 in
theorem w_X2_load {l : Launch} {g : gNum} {L0 b d sz : Nat} {su : SU} {sc : SC} {G0 : GH} (hL0 : L0 ≤ b) (hsu : suOK g.2.1 su b d G0) (hsc : suAt b d G0 sc.1 (.inl (g.2.1 0, sc.2.1, .inl sc.2.2))) (σ : SS) {out : Int32} (h : c_X2_load su σ = some out) : gMet l yX2_load (ws_ yX2_load cX2_load 3 (some .int)) g.1 clX L0 (gK g) [.ref b] (sG g.2.1 b d (su.1 0) sc σ G0) sz 5 106 0 0 (fun v G n => v = some (.int out) ∧ G = sG g.2.1 b d (su.1 0) sc σ G0 ∧ n = sz) := by
  refine gMet.of (own := RX2) (gK_ok g) (by decide +kernel) (Nat.le_of_ble_eq_true rfl) rfl ?_
  intro p e R s m args below meth c A Q ls H hF hQ hin hG hl
  have hx := hF.1.1
  have hb := hF.1.2.1
  have hts := hF.1.2.2.2.2
  have hl : lv_has ls 3 [(0, .ref b)] := hl
  unfold c_X2_load at h
  refine lv_iconst (v := 0) hx hb dX2_load_0 (by decide) ?_
  refine lv_istore_n hx hb dX2_load_1 rfl hl (Nat.le_of_ble_eq_true rfl) (lv' := [(1, .int 0), (0, .ref b)]) rfl (fun ls hl => ?_)
  refine lv_iconst (v := 0) hx hb dX2_load_2 (by decide) ?_
  refine lv_istore_n hx hb dX2_load_3 rfl hl (Nat.le_of_ble_eq_true rfl) (lv' := [(2, .int 0), (1, .int 0), (0, .ref b)]) rfl (fun ls hl => ?_)
  obtain ⟨X1, h, hJ1⟩ := ob1_u h
  have J1 : ∀ (z7 : Int32), X1 = z7 → ∀ (H : Heap) (locs : List Loc) (ls : Array Slot), gJK g L0 A s.heap (sG g.2.1 b d (su.1 0) sc σ G0) sz H locs → lv_has ls 3 [(1, .int z7)] → W p l e R s m args below meth c H locs 0 0 Q (F0 m 29 ls []) := by
    intro z7 e0 H locs ls hG hl
    have h := hJ1 z7 e0
    refine lv_iload_n hx hb dX2_load_29 rfl (lv_at hl 0 rfl) ?_
    have h := Option.some.inj h
    subst h
    exact g_iret hQ hG ⟨rfl, rfl, rfl⟩ (Nat.le_of_ble_eq_true rfl) (Nat.le_of_ble_eq_true rfl) dX2_load_30
  have LL1 : ∀ (n : Nat) (y2 : Int32) (y3 : Int32), c_X2_load_L1 su σ n y2 y3 = some X1 → ∀ (H : Heap) (locs : List Loc) (ls : Array Slot), gJK g L0 A s.heap (sG g.2.1 b d (su.1 0) sc σ G0) sz H locs → lv_has ls 3 [(0, .ref b), (1, .int y2), (2, .int y3)] → W p l e R s m args below meth c H locs 0 0 Q (F0 m 4 ls []) := by
    intro n
    induction n with
    | zero =>
      intro y2 y3 h
      rw [c_X2_load_L1] at h
      cases h
    | succ n ihL1 =>
      intro y2 y3 h H locs ls hG hl
      rw [c_X2_load_L1] at h
      refine lv_iload_n hx hb dX2_load_4 rfl (lv_at hl 2 rfl) ?_
      refine lv_aload_n hx hb dX2_load_5 rfl (lv_at hl 0 rfl) ?_
      refine g_get hF hG sG_0 (C := RX2) (T := TX2) (N := 26) rfl in_X2 0 (by decide) q589 (fun _ h => h) (v := .ref (su.1 0)) rfl dX2_load_6 ?_
      refine ks_size q693 hF (su_of hsu) hG hl (Nat.le_of_ble_eq_true rfl) (Nat.le_of_ble_eq_true rfl) ⟨Nat.le_of_ble_eq_true rfl, Nat.le_of_ble_eq_true rfl⟩ (Nat.le_of_ble_eq_true rfl) dX2_load_9 (fun H locs hG => ?_)
      refine gb_icmp_ge hx hb dX2_load_12 (tgt := 29) (by decide) h (fun h => ?_) (fun h => ?_)
      · exact J1 _ (Option.some.inj h).symm _ _ _ hG (lv_sub hl [1] rfl)
      · refine lv_iload_n hx hb dX2_load_15 rfl (lv_at hl 1 rfl) ?_
        refine lv_aload_n hx hb dX2_load_16 rfl (lv_at hl 0 rfl) ?_
        refine lv_iload_n hx hb dX2_load_17 rfl (lv_at hl 2 rfl) ?_
        refine k_X2_draw q1547 hF hL0 hsu hsc hG hl (Nat.le_of_ble_eq_true rfl) (Nat.le_of_ble_eq_true rfl) h ⟨Nat.le_of_ble_eq_true rfl, Nat.le_of_ble_eq_true rfl⟩ (Nat.le_of_ble_eq_true rfl) dX2_load_18 (fun v4 H locs h hG => ?_)
        refine lv_iadd hx hb dX2_load_21 ?_
        refine gb_nm h (fun x5 h => ?_)
        refine lv_istore_n hx hb dX2_load_22 rfl hl (Nat.le_of_ble_eq_true rfl) (lv' := [(1, .int x5), (0, .ref b), (2, .int y3)]) rfl (fun ls hl => ?_)
        refine gb_iinc (k' := 1) hx hb dX2_load_23 hl (k := 2) rfl (by decide) (Nat.le_of_ble_eq_true rfl) h (fun x6 ls h hl => ?_)
        have hl : lv_has ls 3 [(2, .int x6), (1, .int x5), (0, .ref b)] := hl
        refine lv_goto hx hb dX2_load_26 (tgt := 4) (by decide) ?_
        exact ihL1 _ _ h _ _ _ hG (lv_sub hl [2, 1, 0] rfl)
  exact LL1 _ _ _ h _ _ _ hG (lv_sub hl [2, 1, 0] rfl)
theorem k_X2_load {own : String} {index : Nat} (hq : (Cond.methodLink own index yX2_load) ∈ lw_all) (hF : gXK p m c cc nL s args own g A R rm) (hL0 : L0 ≤ b) (hsu : suOK g.2.1 su b d G0) (hsc : suAt b d G0 sc.1 (.inl (g.2.1 0, sc.2.1, .inl sc.2.2))) (hG : gJK g L0 A s.heap (sG g.2.1 b d (su.1 0) sc σ G0) n H locs) (hl : lv_has ls nL lv) (h1 : 5 + 1 ≤ rm.frames) (h2 : 8 + (3 + 11) + 106 ≤ rm.locals) {f : Int32 → Option γ} (h : ob1 (c_X2_load su σ) f = some o) (hc : cells ≤ rm.cells ∧ slots ≤ rm.slots) (hW : (rest.map fun v => v.category).sum ≤ 8) (hdg : decode cc pc = .ok (.invokevirtual index, 3))
    (kk : ∀ (r : Int32) (H1 : Heap) (locs1 : List Loc), f r = some o → gJK g L0 A s.heap (sG g.2.1 b d (su.1 0) sc σ G0) n H1 locs1 → W p l e R s m args below meth c H1 locs1 cells slots Q (F0 m (pc + 3) ls (.int r :: rest))) : W p l e R s m args below meth c H locs cells slots Q (F0 m pc ls (.ref b :: rest)) := by
  obtain ⟨r, hr, h⟩ := ob1_e h
  refine g_callV hF hG hl sG_0 (C := RX2) (T := TX2) (N := 26) rfl (w_X2_load hL0 hsu hsc σ hr) (cwV 0 hF.1.2.2.2.2 (lw_V hq q1544 q1545 q83 q1546) rfl rfl rfl (by decide +kernel) (g_room hF h1 h2)) rfl rfl hW hdg (hf0 hF.2.2.2.2 hc) (fun v G1 n1 H1 locs1 hR hG1 => ?_)
  obtain ⟨rfl, e2, e3⟩ := hR
  rw [e2, e3] at hG1
  exact kk r H1 locs1 h hG1
/-! X2_expected -/
def c_X2_expected (su : SU) (σ : SS) (p0 : Int32) : Option (Int32) :=
ob1 (j_X1_has (σ.1 16) p0) fun (v1 : Int32) =>
if v1 = 0 then (
ob1 (U_at su p0) fun (i2 : Nat) =>
some (U_o su i2 2))
else (
ob1 (U_at su p0) fun (i3 : Nat) =>
some (U_o su i3 3))
set_option maxRecDepth 100000 in
theorem w_X2_expected {l : Launch} {g : gNum} {L0 b d sz : Nat} {su : SU} {sc : SC} {G0 : GH} (hL0 : L0 ≤ b) (hsu : suOK g.2.1 su b d G0) (hsc : suAt b d G0 sc.1 (.inl (g.2.1 0, sc.2.1, .inl sc.2.2))) (σ : SS) (p0 : Int32) {out : Int32} (h : c_X2_expected su σ p0 = some out) : gMet l yX2_expected (ws_ yX2_expected cX2_expected 2 (some .int)) g.1 clX L0 (gK g) [.ref b, .int p0] (sG g.2.1 b d (su.1 0) sc σ G0) sz 4 85 0 0 (fun v G n => v = some (.int out) ∧ G = sG g.2.1 b d (su.1 0) sc σ G0 ∧ n = sz) := by
  refine gMet.of (own := RX2) (gK_ok g) (by decide +kernel) (Nat.le_of_ble_eq_true rfl) rfl ?_
  intro p e R s m args below meth c A Q ls H hF hQ hin hG hl
  have hx := hF.1.1
  have hb := hF.1.2.1
  have hts := hF.1.2.2.2.2
  have hl : lv_has ls 2 [(0, .ref b), (1, .int p0)] := hl
  unfold c_X2_expected at h
  refine lv_aload_n hx hb dX2_expected_0 rfl (lv_at hl 0 rfl) ?_
  refine g_get hF hG sG_0 (C := RX2) (T := TX2) (N := 26) rfl in_X2 16 (by decide) q616 (fun _ h => h) (v := .int (σ.1 16)) rfl dX2_expected_1 ?_
  refine lv_iload_n hx hb dX2_expected_4 rfl (lv_at hl 1 rfl) ?_
  refine ks_hasN q707 hF hG hl (Nat.le_of_ble_eq_true rfl) (Nat.le_of_ble_eq_true rfl) h ⟨Nat.le_of_ble_eq_true rfl, Nat.le_of_ble_eq_true rfl⟩ (Nat.le_of_ble_eq_true rfl) dX2_expected_5 (fun v1 H locs h hG => ?_)
  refine gb_if_eq hx hb dX2_expected_8 (tgt := 22) (by decide) h (fun h => ?_) (fun h => ?_)
  · refine lv_aload_n hx hb dX2_expected_22 rfl (lv_at hl 0 rfl) ?_
    refine lv_iload_n hx hb dX2_expected_23 rfl (lv_at hl 1 rfl) ?_
    refine ks_at q788 hF hsu hG hl (Nat.le_of_ble_eq_true rfl) (Nat.le_of_ble_eq_true rfl) h ⟨Nat.le_of_ble_eq_true rfl, Nat.le_of_ble_eq_true rfl⟩ (Nat.le_of_ble_eq_true rfl) dX2_expected_24 (fun i2 H locs hi_i2 h hG => ?_)
    refine ks_out hF (su_of hsu) hG hi_i2 2 (by decide) rfl q1244 dX2_expected_27 ?_
    have h := Option.some.inj h
    subst h
    exact g_iret hQ hG ⟨rfl, rfl, rfl⟩ (Nat.le_of_ble_eq_true rfl) (Nat.le_of_ble_eq_true rfl) dX2_expected_30
  · refine lv_aload_n hx hb dX2_expected_11 rfl (lv_at hl 0 rfl) ?_
    refine lv_iload_n hx hb dX2_expected_12 rfl (lv_at hl 1 rfl) ?_
    refine ks_at q788 hF hsu hG hl (Nat.le_of_ble_eq_true rfl) (Nat.le_of_ble_eq_true rfl) h ⟨Nat.le_of_ble_eq_true rfl, Nat.le_of_ble_eq_true rfl⟩ (Nat.le_of_ble_eq_true rfl) dX2_expected_13 (fun i3 H locs hi_i3 h hG => ?_)
    refine ks_out hF (su_of hsu) hG hi_i3 3 (by decide) rfl q1247 dX2_expected_16 ?_
    refine lv_goto hx hb dX2_expected_19 (tgt := 30) (by decide) ?_
    have h := Option.some.inj h
    subst h
    exact g_iret hQ hG ⟨rfl, rfl, rfl⟩ (Nat.le_of_ble_eq_true rfl) (Nat.le_of_ble_eq_true rfl) dX2_expected_30
theorem k_X2_expected {own : String} {index : Nat} (hq : (Cond.methodLink own index yX2_expected) ∈ lw_all) (hF : gXK p m c cc nL s args own g A R rm) (hL0 : L0 ≤ b) (hsu : suOK g.2.1 su b d G0) (hsc : suAt b d G0 sc.1 (.inl (g.2.1 0, sc.2.1, .inl sc.2.2))) (hG : gJK g L0 A s.heap (sG g.2.1 b d (su.1 0) sc σ G0) n H locs) (hl : lv_has ls nL lv) (h1 : 4 + 1 ≤ rm.frames) (h2 : 8 + (2 + 11) + 85 ≤ rm.locals) {p0 : Int32} {f : Int32 → Option γ} (h : ob1 (c_X2_expected su σ p0) f = some o) (hc : cells ≤ rm.cells ∧ slots ≤ rm.slots) (hW : (rest.map fun v => v.category).sum ≤ 8) (hdg : decode cc pc = .ok (.invokevirtual index, 3))
    (kk : ∀ (r : Int32) (H1 : Heap) (locs1 : List Loc), f r = some o → gJK g L0 A s.heap (sG g.2.1 b d (su.1 0) sc σ G0) n H1 locs1 → W p l e R s m args below meth c H1 locs1 cells slots Q (F0 m (pc + 3) ls (.int r :: rest))) : W p l e R s m args below meth c H locs cells slots Q (F0 m pc ls (.int p0 :: .ref b :: rest)) := by
  obtain ⟨r, hr, h⟩ := ob1_e h
  refine g_callV hF hG hl sG_0 (C := RX2) (T := TX2) (N := 26) rfl (w_X2_expected hL0 hsu hsc σ p0 hr) (cwV 1 hF.1.2.2.2.2 (lw_V hq q817 q818 q83 q819) rfl rfl rfl (by decide +kernel) (g_room hF h1 h2)) rfl rfl hW hdg (hf0 hF.2.2.2.2 hc) (fun v G1 n1 H1 locs1 hR hG1 => ?_)
  obtain ⟨rfl, e2, e3⟩ := hR
  rw [e2, e3] at hG1
  exact kk r H1 locs1 h hG1
/-! X2_reserved_2 -/
def c_X2_reserved_2 (su : SU) (σ : SS) (p0 : Int32) : Option (Int32) :=
ob1 (S_rd σ 6 p0) fun (v1 : Int32) =>
if v1 = 2 then (
ob1 (c_X2_expected su σ p0) fun (v4 : Int32) =>
some v4)
else (
ob1 (S_rd σ 6 p0) fun (v2 : Int32) =>
if v2 = 3 then (
ob1 (U_at su p0) fun (i3 : Nat) =>
some (U_o su i3 1))
else (
some 0))
set_option maxRecDepth 100000 in
theorem w_X2_reserved_2 {l : Launch} {g : gNum} {L0 b d sz : Nat} {su : SU} {sc : SC} {G0 : GH} (hL0 : L0 ≤ b) (hsu : suOK g.2.1 su b d G0) (hsc : suAt b d G0 sc.1 (.inl (g.2.1 0, sc.2.1, .inl sc.2.2))) (σ : SS) (p0 : Int32) {out : Int32} (h : c_X2_reserved_2 su σ p0 = some out) : gMet l yX2_reserved_2 (ws_ yX2_reserved_2 cX2_reserved_2 2 (some .int)) g.1 clX L0 (gK g) [.ref b, .int p0] (sG g.2.1 b d (su.1 0) sc σ G0) sz 5 106 0 0 (fun v G n => v = some (.int out) ∧ G = sG g.2.1 b d (su.1 0) sc σ G0 ∧ n = sz) := by
  refine gMet.of (own := RX2) (gK_ok g) (by decide +kernel) (Nat.le_of_ble_eq_true rfl) rfl ?_
  intro p e R s m args below meth c A Q ls H hF hQ hin hG hl
  have hx := hF.1.1
  have hb := hF.1.2.1
  have hts := hF.1.2.2.2.2
  have hl : lv_has ls 2 [(0, .ref b), (1, .int p0)] := hl
  unfold c_X2_reserved_2 at h
  refine lv_aload_n hx hb dX2_reserved_2_0 rfl (lv_at hl 0 rfl) ?_
  refine g_get hF hG sG_0 (C := RX2) (T := TX2) (N := 26) rfl in_X2 6 (by decide) q600 (fun _ h => h) (v := .ref (b + d + 6)) rfl dX2_reserved_2_1 ?_
  refine lv_iload_n hx hb dX2_reserved_2_4 rfl (lv_at hl 1 rfl) ?_
  refine s_rd hF hG (j := 6) (by decide) h dX2_reserved_2_5 (fun v1 h => ?_)
  refine lv_iconst (v := 2) hx hb dX2_reserved_2_6 (by decide) ?_
  refine gb_icmp_ne hx hb dX2_reserved_2_7 (tgt := 18) (by decide) h (fun h => ?_) (fun h => ?_)
  · refine lv_aload_n hx hb dX2_reserved_2_18 rfl (lv_at hl 0 rfl) ?_
    refine g_get hF hG sG_0 (C := RX2) (T := TX2) (N := 26) rfl in_X2 6 (by decide) q600 (fun _ h => h) (v := .ref (b + d + 6)) rfl dX2_reserved_2_19 ?_
    refine lv_iload_n hx hb dX2_reserved_2_22 rfl (lv_at hl 1 rfl) ?_
    refine s_rd hF hG (j := 6) (by decide) h dX2_reserved_2_23 (fun v2 h => ?_)
    refine lv_iconst (v := 3) hx hb dX2_reserved_2_24 (by decide) ?_
    refine gb_icmp_ne hx hb dX2_reserved_2_25 (tgt := 39) (by decide) h (fun h => ?_) (fun h => ?_)
    · refine lv_iconst (v := 0) hx hb dX2_reserved_2_39 (by decide) ?_
      have h := Option.some.inj h
      subst h
      exact g_iret hQ hG ⟨rfl, rfl, rfl⟩ (Nat.le_of_ble_eq_true rfl) (Nat.le_of_ble_eq_true rfl) dX2_reserved_2_40
    · refine lv_aload_n hx hb dX2_reserved_2_28 rfl (lv_at hl 0 rfl) ?_
      refine lv_iload_n hx hb dX2_reserved_2_29 rfl (lv_at hl 1 rfl) ?_
      refine ks_at q788 hF hsu hG hl (Nat.le_of_ble_eq_true rfl) (Nat.le_of_ble_eq_true rfl) h ⟨Nat.le_of_ble_eq_true rfl, Nat.le_of_ble_eq_true rfl⟩ (Nat.le_of_ble_eq_true rfl) dX2_reserved_2_30 (fun i3 H locs hi_i3 h hG => ?_)
      refine ks_out hF (su_of hsu) hG hi_i3 1 (by decide) rfl q1241 dX2_reserved_2_33 ?_
      refine lv_goto hx hb dX2_reserved_2_36 (tgt := 40) (by decide) ?_
      have h := Option.some.inj h
      subst h
      exact g_iret hQ hG ⟨rfl, rfl, rfl⟩ (Nat.le_of_ble_eq_true rfl) (Nat.le_of_ble_eq_true rfl) dX2_reserved_2_40
  · refine lv_aload_n hx hb dX2_reserved_2_10 rfl (lv_at hl 0 rfl) ?_
    refine lv_iload_n hx hb dX2_reserved_2_11 rfl (lv_at hl 1 rfl) ?_
    refine k_X2_expected q816 hF hL0 hsu hsc hG hl (Nat.le_of_ble_eq_true rfl) (Nat.le_of_ble_eq_true rfl) h ⟨Nat.le_of_ble_eq_true rfl, Nat.le_of_ble_eq_true rfl⟩ (Nat.le_of_ble_eq_true rfl) dX2_reserved_2_12 (fun v4 H locs h hG => ?_)
    refine lv_goto hx hb dX2_reserved_2_15 (tgt := 40) (by decide) ?_
    have h := Option.some.inj h
    subst h
    exact g_iret hQ hG ⟨rfl, rfl, rfl⟩ (Nat.le_of_ble_eq_true rfl) (Nat.le_of_ble_eq_true rfl) dX2_reserved_2_40
theorem k_X2_reserved_2 {own : String} {index : Nat} (hq : (Cond.methodLink own index yX2_reserved_2) ∈ lw_all) (hF : gXK p m c cc nL s args own g A R rm) (hL0 : L0 ≤ b) (hsu : suOK g.2.1 su b d G0) (hsc : suAt b d G0 sc.1 (.inl (g.2.1 0, sc.2.1, .inl sc.2.2))) (hG : gJK g L0 A s.heap (sG g.2.1 b d (su.1 0) sc σ G0) n H locs) (hl : lv_has ls nL lv) (h1 : 5 + 1 ≤ rm.frames) (h2 : 8 + (2 + 11) + 106 ≤ rm.locals) {p0 : Int32} {f : Int32 → Option γ} (h : ob1 (c_X2_reserved_2 su σ p0) f = some o) (hc : cells ≤ rm.cells ∧ slots ≤ rm.slots) (hW : (rest.map fun v => v.category).sum ≤ 8) (hdg : decode cc pc = .ok (.invokevirtual index, 3))
    (kk : ∀ (r : Int32) (H1 : Heap) (locs1 : List Loc), f r = some o → gJK g L0 A s.heap (sG g.2.1 b d (su.1 0) sc σ G0) n H1 locs1 → W p l e R s m args below meth c H1 locs1 cells slots Q (F0 m (pc + 3) ls (.int r :: rest))) : W p l e R s m args below meth c H locs cells slots Q (F0 m pc ls (.int p0 :: .ref b :: rest)) := by
  obtain ⟨r, hr, h⟩ := ob1_e h
  refine g_callV hF hG hl sG_0 (C := RX2) (T := TX2) (N := 26) rfl (w_X2_reserved_2 hL0 hsu hsc σ p0 hr) (cwV 1 hF.1.2.2.2.2 (lw_V hq q813 q814 q83 q815) rfl rfl rfl (by decide +kernel) (g_room hF h1 h2)) rfl rfl hW hdg (hf0 hF.2.2.2.2 hc) (fun v G1 n1 H1 locs1 hR hG1 => ?_)
  obtain ⟨rfl, e2, e3⟩ := hR
  rw [e2, e3] at hG1
  exact kk r H1 locs1 h hG1
/-! X2_reserved -/
def c_X2_reserved_L1 (su : SU) (σ : SS) : Nat → Int32 → Int32 → Option (Int32)
  | 0, _, _ => none
  | n + 1, y2, y3 =>
    if (U_n su) ≤ y3 then (
    some y2)
    else (
    ob1 (c_X2_reserved_2 su σ y3) fun (v4 : Int32) =>
    nm (y2 + v4) fun (x5 : Int32) =>
    nm (y3 + 1) fun (x6 : Int32) =>
    c_X2_reserved_L1 su σ n x5 x6)
def c_X2_reserved (su : SU) (σ : SS) : Option (Int32) :=
ob1 (
c_X2_reserved_L1 su σ 4096 0 0) fun (z7 : Int32) =>
some z7
set_option maxRecDepth 100000 in
theorem w_X2_reserved {l : Launch} {g : gNum} {L0 b d sz : Nat} {su : SU} {sc : SC} {G0 : GH} (hL0 : L0 ≤ b) (hsu : suOK g.2.1 su b d G0) (hsc : suAt b d G0 sc.1 (.inl (g.2.1 0, sc.2.1, .inl sc.2.2))) (σ : SS) {out : Int32} (h : c_X2_reserved su σ = some out) : gMet l yX2_reserved (ws_ yX2_reserved cX2_reserved 3 (some .int)) g.1 clX L0 (gK g) [.ref b] (sG g.2.1 b d (su.1 0) sc σ G0) sz 6 127 0 0 (fun v G n => v = some (.int out) ∧ G = sG g.2.1 b d (su.1 0) sc σ G0 ∧ n = sz) := by
  refine gMet.of (own := RX2) (gK_ok g) (by decide +kernel) (Nat.le_of_ble_eq_true rfl) rfl ?_
  intro p e R s m args below meth c A Q ls H hF hQ hin hG hl
  have hx := hF.1.1
  have hb := hF.1.2.1
  have hts := hF.1.2.2.2.2
  have hl : lv_has ls 3 [(0, .ref b)] := hl
  unfold c_X2_reserved at h
  refine lv_iconst (v := 0) hx hb dX2_reserved_0 (by decide) ?_
  refine lv_istore_n hx hb dX2_reserved_1 rfl hl (Nat.le_of_ble_eq_true rfl) (lv' := [(1, .int 0), (0, .ref b)]) rfl (fun ls hl => ?_)
  refine lv_iconst (v := 0) hx hb dX2_reserved_2 (by decide) ?_
  refine lv_istore_n hx hb dX2_reserved_3 rfl hl (Nat.le_of_ble_eq_true rfl) (lv' := [(2, .int 0), (1, .int 0), (0, .ref b)]) rfl (fun ls hl => ?_)
  obtain ⟨X1, h, hJ1⟩ := ob1_u h
  have J1 : ∀ (z7 : Int32), X1 = z7 → ∀ (H : Heap) (locs : List Loc) (ls : Array Slot), gJK g L0 A s.heap (sG g.2.1 b d (su.1 0) sc σ G0) sz H locs → lv_has ls 3 [(1, .int z7)] → W p l e R s m args below meth c H locs 0 0 Q (F0 m 29 ls []) := by
    intro z7 e0 H locs ls hG hl
    have h := hJ1 z7 e0
    refine lv_iload_n hx hb dX2_reserved_29 rfl (lv_at hl 0 rfl) ?_
    have h := Option.some.inj h
    subst h
    exact g_iret hQ hG ⟨rfl, rfl, rfl⟩ (Nat.le_of_ble_eq_true rfl) (Nat.le_of_ble_eq_true rfl) dX2_reserved_30
  have LL1 : ∀ (n : Nat) (y2 : Int32) (y3 : Int32), c_X2_reserved_L1 su σ n y2 y3 = some X1 → ∀ (H : Heap) (locs : List Loc) (ls : Array Slot), gJK g L0 A s.heap (sG g.2.1 b d (su.1 0) sc σ G0) sz H locs → lv_has ls 3 [(0, .ref b), (1, .int y2), (2, .int y3)] → W p l e R s m args below meth c H locs 0 0 Q (F0 m 4 ls []) := by
    intro n
    induction n with
    | zero =>
      intro y2 y3 h
      rw [c_X2_reserved_L1] at h
      cases h
    | succ n ihL1 =>
      intro y2 y3 h H locs ls hG hl
      rw [c_X2_reserved_L1] at h
      refine lv_iload_n hx hb dX2_reserved_4 rfl (lv_at hl 2 rfl) ?_
      refine lv_aload_n hx hb dX2_reserved_5 rfl (lv_at hl 0 rfl) ?_
      refine g_get hF hG sG_0 (C := RX2) (T := TX2) (N := 26) rfl in_X2 0 (by decide) q589 (fun _ h => h) (v := .ref (su.1 0)) rfl dX2_reserved_6 ?_
      refine ks_size q693 hF (su_of hsu) hG hl (Nat.le_of_ble_eq_true rfl) (Nat.le_of_ble_eq_true rfl) ⟨Nat.le_of_ble_eq_true rfl, Nat.le_of_ble_eq_true rfl⟩ (Nat.le_of_ble_eq_true rfl) dX2_reserved_9 (fun H locs hG => ?_)
      refine gb_icmp_ge hx hb dX2_reserved_12 (tgt := 29) (by decide) h (fun h => ?_) (fun h => ?_)
      · exact J1 _ (Option.some.inj h).symm _ _ _ hG (lv_sub hl [1] rfl)
      · refine lv_iload_n hx hb dX2_reserved_15 rfl (lv_at hl 1 rfl) ?_
        refine lv_aload_n hx hb dX2_reserved_16 rfl (lv_at hl 0 rfl) ?_
        refine lv_iload_n hx hb dX2_reserved_17 rfl (lv_at hl 2 rfl) ?_
        refine k_X2_reserved_2 q812 hF hL0 hsu hsc hG hl (Nat.le_of_ble_eq_true rfl) (Nat.le_of_ble_eq_true rfl) h ⟨Nat.le_of_ble_eq_true rfl, Nat.le_of_ble_eq_true rfl⟩ (Nat.le_of_ble_eq_true rfl) dX2_reserved_18 (fun v4 H locs h hG => ?_)
        refine lv_iadd hx hb dX2_reserved_21 ?_
        refine gb_nm h (fun x5 h => ?_)
        refine lv_istore_n hx hb dX2_reserved_22 rfl hl (Nat.le_of_ble_eq_true rfl) (lv' := [(1, .int x5), (0, .ref b), (2, .int y3)]) rfl (fun ls hl => ?_)
        refine gb_iinc (k' := 1) hx hb dX2_reserved_23 hl (k := 2) rfl (by decide) (Nat.le_of_ble_eq_true rfl) h (fun x6 ls h hl => ?_)
        have hl : lv_has ls 3 [(2, .int x6), (1, .int x5), (0, .ref b)] := hl
        refine lv_goto hx hb dX2_reserved_26 (tgt := 4) (by decide) ?_
        exact ihL1 _ _ h _ _ _ hG (lv_sub hl [2, 1, 0] rfl)
  exact LL1 _ _ _ h _ _ _ hG (lv_sub hl [2, 1, 0] rfl)
theorem k_X2_reserved {own : String} {index : Nat} (hq : (Cond.methodLink own index yX2_reserved) ∈ lw_all) (hF : gXK p m c cc nL s args own g A R rm) (hL0 : L0 ≤ b) (hsu : suOK g.2.1 su b d G0) (hsc : suAt b d G0 sc.1 (.inl (g.2.1 0, sc.2.1, .inl sc.2.2))) (hG : gJK g L0 A s.heap (sG g.2.1 b d (su.1 0) sc σ G0) n H locs) (hl : lv_has ls nL lv) (h1 : 6 + 1 ≤ rm.frames) (h2 : 8 + (3 + 11) + 127 ≤ rm.locals) {f : Int32 → Option γ} (h : ob1 (c_X2_reserved su σ) f = some o) (hc : cells ≤ rm.cells ∧ slots ≤ rm.slots) (hW : (rest.map fun v => v.category).sum ≤ 8) (hdg : decode cc pc = .ok (.invokevirtual index, 3))
    (kk : ∀ (r : Int32) (H1 : Heap) (locs1 : List Loc), f r = some o → gJK g L0 A s.heap (sG g.2.1 b d (su.1 0) sc σ G0) n H1 locs1 → W p l e R s m args below meth c H1 locs1 cells slots Q (F0 m (pc + 3) ls (.int r :: rest))) : W p l e R s m args below meth c H locs cells slots Q (F0 m pc ls (.ref b :: rest)) := by
  obtain ⟨r, hr, h⟩ := ob1_e h
  refine g_callV hF hG hl sG_0 (C := RX2) (T := TX2) (N := 26) rfl (w_X2_reserved hL0 hsu hsc σ hr) (cwV 0 hF.1.2.2.2.2 (lw_V hq q809 q810 q83 q811) rfl rfl rfl (by decide +kernel) (g_room hF h1 h2)) rfl rfl hW hdg (hf0 hF.2.2.2.2 hc) (fun v G1 n1 H1 locs1 hR hG1 => ?_)
  obtain ⟨rfl, e2, e3⟩ := hR
  rw [e2, e3] at hG1
  exact kk r H1 locs1 h hG1
/-! X2_waits -/
def c_X2_waits (σ : SS) (p0 : Int32) : Option (SS) :=
ob1 (j_X1_has (σ.1 13) p0) fun (v1 : Int32) =>
ob1 (
if v1 = 0 then (
some (0 : Int32))
else (
some (1 : Int32))) fun (z2 : Int32) =>
ob1 (S_wr σ 1 p0 z2) fun (σ3 : SS) =>
ob1 (S_wr σ3 2 p0 0) fun (σ4 : SS) =>
ob1 (S_wr σ4 5 p0 (-1)) fun (σ5 : SS) =>
some σ5
set_option maxRecDepth 100000 in
theorem w_X2_waits {l : Launch} {g : gNum} {L0 b d sz : Nat} {su : SU} {sc : SC} {G0 : GH} (hL0 : L0 ≤ b) (hsu : suOK g.2.1 su b d G0) (hsc : suAt b d G0 sc.1 (.inl (g.2.1 0, sc.2.1, .inl sc.2.2))) (σ : SS) (p0 : Int32) {out : SS} (h : c_X2_waits σ p0 = some out) : gMet l yX2_waits (ws_ yX2_waits cX2_waits 2 none) g.1 clX L0 (gK g) [.ref b, .int p0] (sG g.2.1 b d (su.1 0) sc σ G0) sz 1 21 0 0 (fun v G n => v = none ∧ G = sG g.2.1 b d (su.1 0) sc out G0 ∧ n = sz) := by
  refine gMet.of (own := RX2) (gK_ok g) (by decide +kernel) (Nat.le_of_ble_eq_true rfl) rfl ?_
  intro p e R s m args below meth c A Q ls H hF hQ hin hG hl
  have hx := hF.1.1
  have hb := hF.1.2.1
  have hts := hF.1.2.2.2.2
  have hl : lv_has ls 2 [(0, .ref b), (1, .int p0)] := hl
  unfold c_X2_waits at h
  refine lv_aload_n hx hb dX2_waits_0 rfl (lv_at hl 0 rfl) ?_
  refine g_get hF hG sG_0 (C := RX2) (T := TX2) (N := 26) rfl in_X2 1 (by decide) q591 (fun _ h => h) (v := .ref (b + d + 1)) rfl dX2_waits_1 ?_
  refine lv_iload_n hx hb dX2_waits_4 rfl (lv_at hl 1 rfl) ?_
  refine lv_aload_n hx hb dX2_waits_5 rfl (lv_at hl 0 rfl) ?_
  refine g_get hF hG sG_0 (C := RX2) (T := TX2) (N := 26) rfl in_X2 13 (by decide) q612 (fun _ h => h) (v := .int (σ.1 13)) rfl dX2_waits_6 ?_
  refine lv_iload_n hx hb dX2_waits_9 rfl (lv_at hl 1 rfl) ?_
  refine ks_hasN q707 hF hG hl (Nat.le_of_ble_eq_true rfl) (Nat.le_of_ble_eq_true rfl) h ⟨Nat.le_of_ble_eq_true rfl, Nat.le_of_ble_eq_true rfl⟩ (Nat.le_of_ble_eq_true rfl) dX2_waits_10 (fun v1 H locs h hG => ?_)
  obtain ⟨X1, h, hJ1⟩ := ob1_u h
  have J1 : ∀ (z2 : Int32), X1 = z2 → ∀ (H : Heap) (locs : List Loc) (ls : Array Slot), gJK g L0 A s.heap (sG g.2.1 b d (su.1 0) sc σ G0) sz H locs → lv_has ls 2 [(0, .ref b), (1, .int p0)] → W p l e R s m args below meth c H locs 0 0 Q (F0 m 21 ls [.int z2, .int p0, .ref (b + d + 1)]) := by
    intro z2 e0 H locs ls hG hl
    have h := hJ1 z2 e0
    refine s_wr hF hL0 hG (j := 1) (by decide) h dX2_waits_21 (fun σ3 H locs h hG => ?_)
    refine lv_aload_n hx hb dX2_waits_22 rfl (lv_at hl 0 rfl) ?_
    refine g_get hF hG sG_0 (C := RX2) (T := TX2) (N := 26) rfl in_X2 2 (by decide) q593 (fun _ h => h) (v := .ref (b + d + 2)) rfl dX2_waits_23 ?_
    refine lv_iload_n hx hb dX2_waits_26 rfl (lv_at hl 1 rfl) ?_
    refine lv_iconst (v := 0) hx hb dX2_waits_27 (by decide) ?_
    refine s_wr hF hL0 hG (j := 2) (by decide) h dX2_waits_28 (fun σ4 H locs h hG => ?_)
    refine lv_aload_n hx hb dX2_waits_29 rfl (lv_at hl 0 rfl) ?_
    refine g_get hF hG sG_0 (C := RX2) (T := TX2) (N := 26) rfl in_X2 5 (by decide) q599 (fun _ h => h) (v := .ref (b + d + 5)) rfl dX2_waits_30 ?_
    refine lv_iload_n hx hb dX2_waits_33 rfl (lv_at hl 1 rfl) ?_
    refine lv_iconst (v := (-1)) hx hb dX2_waits_34 (by decide) ?_
    refine s_wr hF hL0 hG (j := 5) (by decide) h dX2_waits_35 (fun σ5 H locs h hG => ?_)
    have h := Option.some.inj h
    subst h
    exact g_vret hQ hG ⟨rfl, rfl, rfl⟩ (Nat.le_of_ble_eq_true rfl) (Nat.le_of_ble_eq_true rfl) dX2_waits_36
  refine gb_if_eq hx hb dX2_waits_13 (tgt := 20) (by decide) h (fun h => ?_) (fun h => ?_)
  · refine lv_iconst (v := 0) hx hb dX2_waits_20 (by decide) ?_
    exact J1 _ (Option.some.inj h).symm _ _ _ hG hl
  · refine lv_iconst (v := 1) hx hb dX2_waits_16 (by decide) ?_
    refine lv_goto hx hb dX2_waits_17 (tgt := 21) (by decide) ?_
    exact J1 _ (Option.some.inj h).symm _ _ _ hG hl
theorem k_X2_waits {own : String} {index : Nat} (hq : (Cond.methodLink own index yX2_waits) ∈ lw_all) (hF : gXK p m c cc nL s args own g A R rm) (hL0 : L0 ≤ b) (hsu : suOK g.2.1 su b d G0) (hsc : suAt b d G0 sc.1 (.inl (g.2.1 0, sc.2.1, .inl sc.2.2))) (hG : gJK g L0 A s.heap (sG g.2.1 b d (su.1 0) sc σ G0) n H locs) (hl : lv_has ls nL lv) (h1 : 1 + 1 ≤ rm.frames) (h2 : 8 + (2 + 11) + 21 ≤ rm.locals) {p0 : Int32} {f : SS → Option γ} (h : ob1 (c_X2_waits σ p0) f = some o) (hc : cells ≤ rm.cells ∧ slots ≤ rm.slots) (hW : (rest.map fun v => v.category).sum ≤ 8) (hdg : decode cc pc = .ok (.invokevirtual index, 3))
    (kk : ∀ (σ1 : SS) (H1 : Heap) (locs1 : List Loc), f σ1 = some o → gJK g L0 A s.heap (sG g.2.1 b d (su.1 0) sc σ1 G0) n H1 locs1 → W p l e R s m args below meth c H1 locs1 cells slots Q (F0 m (pc + 3) ls rest)) : W p l e R s m args below meth c H locs cells slots Q (F0 m pc ls (.int p0 :: .ref b :: rest)) := by
  obtain ⟨r, hr, h⟩ := ob1_e h
  refine g_callV hF hG hl sG_0 (C := RX2) (T := TX2) (N := 26) rfl (w_X2_waits hL0 hsu hsc σ p0 hr) (cwV 1 hF.1.2.2.2.2 (lw_V hq q1665 qs27 q83 q1666) rfl rfl rfl (by decide +kernel) (g_room hF h1 h2)) rfl rfl hW hdg (hf0 hF.2.2.2.2 hc) (fun v G1 n1 H1 locs1 hR hG1 => ?_)
  obtain ⟨rfl, e2, e3⟩ := hR
  rw [e2, e3] at hG1
  exact kk r H1 locs1 h hG1
/-! X2_blackout -/
def c_X2_blackout_L3 (su : SU) : Nat → Int32 → SS → Option (SS)
  | 0, _, _ => none
  | n + 1, y4, σ5 =>
    if (U_n su) ≤ y4 then (
    some σ5)
    else (
    ob1 (c_X2_waits σ5 y4) fun (σ6 : SS) =>
    ob1 (S_wr σ6 6 y4 0) fun (σ7 : SS) =>
    ob1 (S_wr σ7 7 y4 (σ7.1 19)) fun (σ8 : SS) =>
    nm (y4 + 1) fun (x9 : Int32) =>
    c_X2_blackout_L3 su n x9 σ8)
def c_X2_blackout (su : SU) (σ : SS) (p0 : Int32) : Option (SS) :=
nm (S_sf σ 21 ((σ.1 21) + 1)) fun (σ1 : SS) =>
nm (S_sf σ1 20 (if (σ1.1 20) < ((σ1.1 19) + p0) then ((σ1.1 19) + p0) else (σ1.1 20))) fun (σ2 : SS) =>
ob1 (
c_X2_blackout_L3 su 4096 0 σ2) fun (σ10 : SS) =>
nm (S_sf σ10 32 0) fun (σ11 : SS) =>
nm (S_sf σ11 14 0) fun (σ12 : SS) =>
nm (S_sf σ12 15 0) fun (σ13 : SS) =>
nm (S_sf σ13 31 0) fun (σ14 : SS) =>
some σ14
set_option maxRecDepth 100000 in
theorem w_X2_blackout {l : Launch} {g : gNum} {L0 b d sz : Nat} {su : SU} {sc : SC} {G0 : GH} (hL0 : L0 ≤ b) (hsu : suOK g.2.1 su b d G0) (hsc : suAt b d G0 sc.1 (.inl (g.2.1 0, sc.2.1, .inl sc.2.2))) (σ : SS) (p0 : Int32) {out : SS} (h : c_X2_blackout su σ p0 = some out) : gMet l yX2_blackout (ws_ yX2_blackout cX2_blackout 3 none) g.1 clX L0 (gK g) [.ref b, .int p0] (sG g.2.1 b d (su.1 0) sc σ G0) sz 2 42 0 0 (fun v G n => v = none ∧ G = sG g.2.1 b d (su.1 0) sc out G0 ∧ n = sz) := by
  refine gMet.of (own := RX2) (gK_ok g) (by decide +kernel) (Nat.le_of_ble_eq_true rfl) rfl ?_
  intro p e R s m args below meth c A Q ls H hF hQ hin hG hl
  have hx := hF.1.1
  have hb := hF.1.2.1
  have hts := hF.1.2.2.2.2
  have hl : lv_has ls 3 [(0, .ref b), (1, .int p0)] := hl
  unfold c_X2_blackout at h
  refine lv_aload_n hx hb dX2_blackout_0 rfl (lv_at hl 0 rfl) ?_
  refine lv_dup hx hb dX2_blackout_1 rfl ?_
  refine g_get hF hG sG_0 (C := RX2) (T := TX2) (N := 26) rfl in_X2 21 (by decide) q626 (fun _ h => h) (v := .int (σ.1 21)) rfl dX2_blackout_2 ?_
  refine lv_iconst (v := 1) hx hb dX2_blackout_5 (by decide) ?_
  refine lv_iadd hx hb dX2_blackout_6 ?_
  refine s_putI hF hL0 hG 21 (by decide) ⟨rfl, rfl, rfl⟩ q626 h dX2_blackout_7 (fun σ1 H locs h hG => ?_)
  refine lv_aload_n hx hb dX2_blackout_10 rfl (lv_at hl 0 rfl) ?_
  refine lv_aload_n hx hb dX2_blackout_11 rfl (lv_at hl 0 rfl) ?_
  refine g_get hF hG sG_0 (C := RX2) (T := TX2) (N := 26) rfl in_X2 20 (by decide) q624 (fun _ h => h) (v := .int (σ1.1 20)) rfl dX2_blackout_12 ?_
  refine lv_aload_n hx hb dX2_blackout_15 rfl (lv_at hl 0 rfl) ?_
  refine g_get hF hG sG_0 (C := RX2) (T := TX2) (N := 26) rfl in_X2 19 (by decide) q622 (fun _ h => h) (v := .int (σ1.1 19)) rfl dX2_blackout_16 ?_
  refine lv_iload_n hx hb dX2_blackout_19 rfl (lv_at hl 1 rfl) ?_
  refine lv_iadd hx hb dX2_blackout_20 ?_
  refine g_max hF hl q1662 (Nat.le_of_ble_eq_true rfl) (Nat.le_of_ble_eq_true rfl) ⟨Nat.le_of_ble_eq_true rfl, Nat.le_of_ble_eq_true rfl⟩ dX2_blackout_21 ?_
  refine s_putI hF hL0 hG 20 (by decide) ⟨rfl, rfl, rfl⟩ q624 h dX2_blackout_24 (fun σ2 H locs h hG => ?_)
  refine lv_iconst (v := 0) hx hb dX2_blackout_27 (by decide) ?_
  refine lv_istore_n hx hb dX2_blackout_28 rfl hl (Nat.le_of_ble_eq_true rfl) (lv' := [(2, .int 0), (0, .ref b), (1, .int p0)]) rfl (fun ls hl => ?_)
  obtain ⟨X1, h, hJ1⟩ := ob1_u h
  have J1 : ∀ (σ10 : SS), X1 = σ10 → ∀ (H : Heap) (locs : List Loc) (ls : Array Slot), gJK g L0 A s.heap (sG g.2.1 b d (su.1 0) sc σ10 G0) sz H locs → lv_has ls 3 [(0, .ref b)] → W p l e R s m args below meth c H locs 0 0 Q (F0 m 68 ls []) := by
    intro σ10 e0 H locs ls hG hl
    have h := hJ1 σ10 e0
    refine lv_aload_n hx hb dX2_blackout_68 rfl (lv_at hl 0 rfl) ?_
    refine g_get hF hG sG_0 (C := RX2) (T := TX2) (N := 26) rfl in_X2 9 (by decide) q606 (fun _ h => h) (v := .ref (b + d + 14)) rfl dX2_blackout_69 ?_
    refine lv_iconst (v := 0) hx hb dX2_blackout_72 (by decide) ?_
    refine s_putWN hF hL0 hG q574 h dX2_blackout_73 (fun σ11 H locs h hG => ?_)
    refine lv_aload_n hx hb dX2_blackout_76 rfl (lv_at hl 0 rfl) ?_
    refine lv_iconst (v := 0) hx hb dX2_blackout_77 (by decide) ?_
    refine s_putI hF hL0 hG 14 (by decide) ⟨rfl, rfl, rfl⟩ q614 h dX2_blackout_78 (fun σ12 H locs h hG => ?_)
    refine lv_aload_n hx hb dX2_blackout_81 rfl (lv_at hl 0 rfl) ?_
    refine lv_iconst (v := 0) hx hb dX2_blackout_82 (by decide) ?_
    refine s_putI hF hL0 hG 15 (by decide) ⟨rfl, rfl, rfl⟩ q615 h dX2_blackout_83 (fun σ13 H locs h hG => ?_)
    refine lv_aload_n hx hb dX2_blackout_86 rfl (lv_at hl 0 rfl) ?_
    refine g_get hF hG sG_0 (C := RX2) (T := TX2) (N := 26) rfl in_X2 11 (by decide) q610 (fun _ h => h) (v := .ref (b + d + 11)) rfl dX2_blackout_87 ?_
    refine lv_iconst (v := 0) hx hb dX2_blackout_90 (by decide) ?_
    refine s_putO11N hF hL0 hG q553 h dX2_blackout_91 (fun σ14 H locs h hG => ?_)
    have h := Option.some.inj h
    subst h
    exact g_vret hQ hG ⟨rfl, rfl, rfl⟩ (Nat.le_of_ble_eq_true rfl) (Nat.le_of_ble_eq_true rfl) dX2_blackout_94
  have LL3 : ∀ (n : Nat) (y4 : Int32) (σ5 : SS), c_X2_blackout_L3 su n y4 σ5 = some X1 → ∀ (H : Heap) (locs : List Loc) (ls : Array Slot), gJK g L0 A s.heap (sG g.2.1 b d (su.1 0) sc σ5 G0) sz H locs → lv_has ls 3 [(0, .ref b), (2, .int y4)] → W p l e R s m args below meth c H locs 0 0 Q (F0 m 29 ls []) := by
    intro n
    induction n with
    | zero =>
      intro y4 σ5 h
      rw [c_X2_blackout_L3] at h
      cases h
    | succ n ihL3 =>
      intro y4 σ5 h H locs ls hG hl
      rw [c_X2_blackout_L3] at h
      refine lv_iload_n hx hb dX2_blackout_29 rfl (lv_at hl 1 rfl) ?_
      refine lv_aload_n hx hb dX2_blackout_30 rfl (lv_at hl 0 rfl) ?_
      refine g_get hF hG sG_0 (C := RX2) (T := TX2) (N := 26) rfl in_X2 0 (by decide) q589 (fun _ h => h) (v := .ref (su.1 0)) rfl dX2_blackout_31 ?_
      refine ks_size q693 hF (su_of hsu) hG hl (Nat.le_of_ble_eq_true rfl) (Nat.le_of_ble_eq_true rfl) ⟨Nat.le_of_ble_eq_true rfl, Nat.le_of_ble_eq_true rfl⟩ (Nat.le_of_ble_eq_true rfl) dX2_blackout_34 (fun H locs hG => ?_)
      refine gb_icmp_ge hx hb dX2_blackout_37 (tgt := 68) (by decide) h (fun h => ?_) (fun h => ?_)
      · exact J1 _ (Option.some.inj h).symm _ _ _ hG (lv_sub hl [0] rfl)
      · refine lv_aload_n hx hb dX2_blackout_40 rfl (lv_at hl 0 rfl) ?_
        refine lv_iload_n hx hb dX2_blackout_41 rfl (lv_at hl 1 rfl) ?_
        refine k_X2_waits q1663 hF hL0 hsu hsc hG hl (Nat.le_of_ble_eq_true rfl) (Nat.le_of_ble_eq_true rfl) h ⟨Nat.le_of_ble_eq_true rfl, Nat.le_of_ble_eq_true rfl⟩ (Nat.le_of_ble_eq_true rfl) dX2_blackout_42 (fun σ6 H locs h hG => ?_)
        refine lv_aload_n hx hb dX2_blackout_45 rfl (lv_at hl 0 rfl) ?_
        refine g_get hF hG sG_0 (C := RX2) (T := TX2) (N := 26) rfl in_X2 6 (by decide) q600 (fun _ h => h) (v := .ref (b + d + 6)) rfl dX2_blackout_46 ?_
        refine lv_iload_n hx hb dX2_blackout_49 rfl (lv_at hl 1 rfl) ?_
        refine lv_iconst (v := 0) hx hb dX2_blackout_50 (by decide) ?_
        refine s_wr hF hL0 hG (j := 6) (by decide) h dX2_blackout_51 (fun σ7 H locs h hG => ?_)
        refine lv_aload_n hx hb dX2_blackout_52 rfl (lv_at hl 0 rfl) ?_
        refine g_get hF hG sG_0 (C := RX2) (T := TX2) (N := 26) rfl in_X2 7 (by decide) q602 (fun _ h => h) (v := .ref (b + d + 7)) rfl dX2_blackout_53 ?_
        refine lv_iload_n hx hb dX2_blackout_56 rfl (lv_at hl 1 rfl) ?_
        refine lv_aload_n hx hb dX2_blackout_57 rfl (lv_at hl 0 rfl) ?_
        refine g_get hF hG sG_0 (C := RX2) (T := TX2) (N := 26) rfl in_X2 19 (by decide) q622 (fun _ h => h) (v := .int (σ7.1 19)) rfl dX2_blackout_58 ?_
        refine s_wr hF hL0 hG (j := 7) (by decide) h dX2_blackout_61 (fun σ8 H locs h hG => ?_)
        refine gb_iinc (k' := 1) hx hb dX2_blackout_62 hl (k := 1) rfl (by decide) (Nat.le_of_ble_eq_true rfl) h (fun x9 ls h hl => ?_)
        have hl : lv_has ls 3 [(2, .int x9), (0, .ref b)] := hl
        refine lv_goto hx hb dX2_blackout_65 (tgt := 29) (by decide) ?_
        exact ihL3 _ _ h _ _ _ hG (lv_sub hl [1, 0] rfl)
  exact LL3 _ _ _ h _ _ _ hG (lv_sub hl [1, 0] rfl)
theorem k_X2_blackout {own : String} {index : Nat} (hq : (Cond.methodLink own index yX2_blackout) ∈ lw_all) (hF : gXK p m c cc nL s args own g A R rm) (hL0 : L0 ≤ b) (hsu : suOK g.2.1 su b d G0) (hsc : suAt b d G0 sc.1 (.inl (g.2.1 0, sc.2.1, .inl sc.2.2))) (hG : gJK g L0 A s.heap (sG g.2.1 b d (su.1 0) sc σ G0) n H locs) (hl : lv_has ls nL lv) (h1 : 2 + 1 ≤ rm.frames) (h2 : 8 + (3 + 11) + 42 ≤ rm.locals) {p0 : Int32} {f : SS → Option γ} (h : ob1 (c_X2_blackout su σ p0) f = some o) (hc : cells ≤ rm.cells ∧ slots ≤ rm.slots) (hW : (rest.map fun v => v.category).sum ≤ 8) (hdg : decode cc pc = .ok (.invokevirtual index, 3))
    (kk : ∀ (σ1 : SS) (H1 : Heap) (locs1 : List Loc), f σ1 = some o → gJK g L0 A s.heap (sG g.2.1 b d (su.1 0) sc σ1 G0) n H1 locs1 → W p l e R s m args below meth c H1 locs1 cells slots Q (F0 m (pc + 3) ls rest)) : W p l e R s m args below meth c H locs cells slots Q (F0 m pc ls (.int p0 :: .ref b :: rest)) := by
  obtain ⟨r, hr, h⟩ := ob1_e h
  refine g_callV hF hG hl sG_0 (C := RX2) (T := TX2) (N := 26) rfl (w_X2_blackout hL0 hsu hsc σ p0 hr) (cwV 1 hF.1.2.2.2.2 (lw_V hq q1659 q1660 q83 q1661) rfl rfl rfl (by decide +kernel) (g_room hF h1 h2)) rfl rfl hW hdg (hf0 hF.2.2.2.2 hc) (fun v G1 n1 H1 locs1 hR hG1 => ?_)
  obtain ⟨rfl, e2, e3⟩ := hR
  rw [e2, e3] at hG1
  exact kk r H1 locs1 h hG1
/-! X2_want -/
def c_X2_want (σ : SS) (p0 : Int32) (p1 : Int32) : Option (SS) :=
ob1 (j_X1_has (σ.1 13) p0) fun (v1 : Int32) =>
if v1 = p1 then (
some σ)
else (
nm (S_sf σ 13 ((σ.1 13) ^^^ (1 <<< (p0 &&& 31)))) fun (σ2 : SS) =>
ob1 (S_rd σ2 1 p0) fun (v3 : Int32) =>
ob1 (
if v3 < 2 then (
some (0 : Int32))
else (
some (1 <<< (p0 &&& 31)))) fun (z4 : Int32) =>
nm (S_sf σ2 15 ((σ2.1 15) ||| z4)) fun (σ5 : SS) =>
ob1 (c_X2_waits σ5 p0) fun (σ6 : SS) =>
some σ6)
set_option maxRecDepth 100000 in
theorem w_X2_want {l : Launch} {g : gNum} {L0 b d sz : Nat} {su : SU} {sc : SC} {G0 : GH} (hL0 : L0 ≤ b) (hsu : suOK g.2.1 su b d G0) (hsc : suAt b d G0 sc.1 (.inl (g.2.1 0, sc.2.1, .inl sc.2.2))) (σ : SS) (p0 : Int32) (p1 : Int32) {out : SS} (h : c_X2_want σ p0 p1 = some out) : gMet l yX2_want (ws_ yX2_want cX2_want 3 none) g.1 clX L0 (gK g) [.ref b, .int p0, .int p1] (sG g.2.1 b d (su.1 0) sc σ G0) sz 2 42 0 0 (fun v G n => v = none ∧ G = sG g.2.1 b d (su.1 0) sc out G0 ∧ n = sz) := by
  refine gMet.of (own := RX2) (gK_ok g) (by decide +kernel) (Nat.le_of_ble_eq_true rfl) rfl ?_
  intro p e R s m args below meth c A Q ls H hF hQ hin hG hl
  have hx := hF.1.1
  have hb := hF.1.2.1
  have hts := hF.1.2.2.2.2
  have hl : lv_has ls 3 [(0, .ref b), (1, .int p0), (2, .int p1)] := hl
  unfold c_X2_want at h
  refine lv_aload_n hx hb dX2_want_0 rfl (lv_at hl 0 rfl) ?_
  refine g_get hF hG sG_0 (C := RX2) (T := TX2) (N := 26) rfl in_X2 13 (by decide) q612 (fun _ h => h) (v := .int (σ.1 13)) rfl dX2_want_1 ?_
  refine lv_iload_n hx hb dX2_want_4 rfl (lv_at hl 1 rfl) ?_
  refine ks_hasN q707 hF hG hl (Nat.le_of_ble_eq_true rfl) (Nat.le_of_ble_eq_true rfl) h ⟨Nat.le_of_ble_eq_true rfl, Nat.le_of_ble_eq_true rfl⟩ (Nat.le_of_ble_eq_true rfl) dX2_want_5 (fun v1 H locs h hG => ?_)
  refine lv_iload_n hx hb dX2_want_8 rfl (lv_at hl 2 rfl) ?_
  refine gb_icmp_ne hx hb dX2_want_9 (tgt := 13) (by decide) h (fun h => ?_) (fun h => ?_)
  · refine lv_aload_n hx hb dX2_want_13 rfl (lv_at hl 0 rfl) ?_
    refine lv_dup hx hb dX2_want_14 rfl ?_
    refine g_get hF hG sG_0 (C := RX2) (T := TX2) (N := 26) rfl in_X2 13 (by decide) q612 (fun _ h => h) (v := .int (σ.1 13)) rfl dX2_want_15 ?_
    refine lv_iconst (v := 1) hx hb dX2_want_18 (by decide) ?_
    refine lv_iload_n hx hb dX2_want_19 rfl (lv_at hl 1 rfl) ?_
    refine lv_ishl hx hb dX2_want_20 ?_
    refine lv_ixor hx hb dX2_want_21 ?_
    refine s_putI hF hL0 hG 13 (by decide) ⟨rfl, rfl, rfl⟩ q612 h dX2_want_22 (fun σ2 H locs h hG => ?_)
    refine lv_aload_n hx hb dX2_want_25 rfl (lv_at hl 0 rfl) ?_
    refine lv_dup hx hb dX2_want_26 rfl ?_
    refine g_get hF hG sG_0 (C := RX2) (T := TX2) (N := 26) rfl in_X2 15 (by decide) q615 (fun _ h => h) (v := .int (σ2.1 15)) rfl dX2_want_27 ?_
    refine lv_aload_n hx hb dX2_want_30 rfl (lv_at hl 0 rfl) ?_
    refine g_get hF hG sG_0 (C := RX2) (T := TX2) (N := 26) rfl in_X2 1 (by decide) q591 (fun _ h => h) (v := .ref (b + d + 1)) rfl dX2_want_31 ?_
    refine lv_iload_n hx hb dX2_want_34 rfl (lv_at hl 1 rfl) ?_
    refine s_rd hF hG (j := 1) (by decide) h dX2_want_35 (fun v3 h => ?_)
    refine lv_iconst (v := 2) hx hb dX2_want_36 (by decide) ?_
    obtain ⟨X1, h, hJ1⟩ := ob1_u h
    have J1 : ∀ (z4 : Int32), X1 = z4 → ∀ (H : Heap) (locs : List Loc) (ls : Array Slot), gJK g L0 A s.heap (sG g.2.1 b d (su.1 0) sc σ2 G0) sz H locs → lv_has ls 3 [(0, .ref b), (1, .int p0)] → W p l e R s m args below meth c H locs 0 0 Q (F0 m 47 ls [.int z4, .int (σ2.1 15), .ref b]) := by
      intro z4 e0 H locs ls hG hl
      have h := hJ1 z4 e0
      refine lv_ior hx hb dX2_want_47 ?_
      refine s_putI hF hL0 hG 15 (by decide) ⟨rfl, rfl, rfl⟩ q615 h dX2_want_48 (fun σ5 H locs h hG => ?_)
      refine lv_aload_n hx hb dX2_want_51 rfl (lv_at hl 0 rfl) ?_
      refine lv_iload_n hx hb dX2_want_52 rfl (lv_at hl 1 rfl) ?_
      refine k_X2_waits q1663 hF hL0 hsu hsc hG hl (Nat.le_of_ble_eq_true rfl) (Nat.le_of_ble_eq_true rfl) h ⟨Nat.le_of_ble_eq_true rfl, Nat.le_of_ble_eq_true rfl⟩ (Nat.le_of_ble_eq_true rfl) dX2_want_53 (fun σ6 H locs h hG => ?_)
      have h := Option.some.inj h
      subst h
      exact g_vret hQ hG ⟨rfl, rfl, rfl⟩ (Nat.le_of_ble_eq_true rfl) (Nat.le_of_ble_eq_true rfl) dX2_want_56
    refine gb_icmp_lt hx hb dX2_want_37 (tgt := 46) (by decide) h (fun h => ?_) (fun h => ?_)
    · refine lv_iconst (v := 0) hx hb dX2_want_46 (by decide) ?_
      exact J1 _ (Option.some.inj h).symm _ _ _ hG (lv_sub hl [0, 1] rfl)
    · refine lv_iconst (v := 1) hx hb dX2_want_40 (by decide) ?_
      refine lv_iload_n hx hb dX2_want_41 rfl (lv_at hl 1 rfl) ?_
      refine lv_ishl hx hb dX2_want_42 ?_
      refine lv_goto hx hb dX2_want_43 (tgt := 47) (by decide) ?_
      exact J1 _ (Option.some.inj h).symm _ _ _ hG (lv_sub hl [0, 1] rfl)
  · have h := Option.some.inj h
    subst h
    exact g_vret hQ hG ⟨rfl, rfl, rfl⟩ (Nat.le_of_ble_eq_true rfl) (Nat.le_of_ble_eq_true rfl) dX2_want_12
theorem k_X2_want {own : String} {index : Nat} (hq : (Cond.methodLink own index yX2_want) ∈ lw_all) (hF : gXK p m c cc nL s args own g A R rm) (hL0 : L0 ≤ b) (hsu : suOK g.2.1 su b d G0) (hsc : suAt b d G0 sc.1 (.inl (g.2.1 0, sc.2.1, .inl sc.2.2))) (hG : gJK g L0 A s.heap (sG g.2.1 b d (su.1 0) sc σ G0) n H locs) (hl : lv_has ls nL lv) (h1 : 2 + 1 ≤ rm.frames) (h2 : 8 + (3 + 11) + 42 ≤ rm.locals) {p0 : Int32} {p1 : Int32} {f : SS → Option γ} (h : ob1 (c_X2_want σ p0 p1) f = some o) (hc : cells ≤ rm.cells ∧ slots ≤ rm.slots) (hW : (rest.map fun v => v.category).sum ≤ 8) (hdg : decode cc pc = .ok (.invokevirtual index, 3))
    (kk : ∀ (σ1 : SS) (H1 : Heap) (locs1 : List Loc), f σ1 = some o → gJK g L0 A s.heap (sG g.2.1 b d (su.1 0) sc σ1 G0) n H1 locs1 → W p l e R s m args below meth c H1 locs1 cells slots Q (F0 m (pc + 3) ls rest)) : W p l e R s m args below meth c H locs cells slots Q (F0 m pc ls (.int p1 :: .int p0 :: .ref b :: rest)) := by
  obtain ⟨r, hr, h⟩ := ob1_e h
  refine g_callV hF hG hl sG_0 (C := RX2) (T := TX2) (N := 26) rfl (w_X2_want hL0 hsu hsc σ p0 p1 hr) (cwV 2 hF.1.2.2.2.2 (lw_V hq q1759 q1760 q83 q1761) rfl rfl rfl (by decide +kernel) (g_room hF h1 h2)) rfl rfl hW hdg (hf0 hF.2.2.2.2 hc) (fun v G1 n1 H1 locs1 hR hG1 => ?_)
  obtain ⟨rfl, e2, e3⟩ := hR
  rw [e2, e3] at hG1
  exact kk r H1 locs1 h hG1
/-! X2_marks -/
def c_X2_marks (σ : SS) (p0 : Int32) (p1 : Int32) : Option (SS) :=
ob1 (S_wr σ 6 p0 p1) fun (σ1 : SS) =>
ob1 (S_wr σ1 7 p0 (σ1.1 19)) fun (σ2 : SS) =>
if p1 = 3 then (
nm (S_sf σ2 16 ((σ2.1 16) ||| (1 <<< (p0 &&& 31)))) fun (σ3 : SS) =>
ob2 (j_X4_add 0 p0 0 (σ3.1 31) (σ3.2 12)) fun (mn : Int32) (rw : Nat → Int32) => nm (S_sf (S_sA σ3 12 rw) 31 mn) fun (σ4 : SS) =>
some σ4)
else (
some σ2)
set_option maxRecDepth 100000 in
theorem w_X2_marks {l : Launch} {g : gNum} {L0 b d sz : Nat} {su : SU} {sc : SC} {G0 : GH} (hL0 : L0 ≤ b) (hsu : suOK g.2.1 su b d G0) (hsc : suAt b d G0 sc.1 (.inl (g.2.1 0, sc.2.1, .inl sc.2.2))) (σ : SS) (p0 : Int32) (p1 : Int32) {out : SS} (h : c_X2_marks σ p0 p1 = some out) : gMet l yX2_marks (ws_ yX2_marks cX2_marks 3 none) g.1 clX L0 (gK g) [.ref b, .int p0, .int p1] (sG g.2.1 b d (su.1 0) sc σ G0) sz 2 43 0 0 (fun v G n => v = none ∧ G = sG g.2.1 b d (su.1 0) sc out G0 ∧ n = sz) := by
  refine gMet.of (own := RX2) (gK_ok g) (by decide +kernel) (Nat.le_of_ble_eq_true rfl) rfl ?_
  intro p e R s m args below meth c A Q ls H hF hQ hin hG hl
  have hx := hF.1.1
  have hb := hF.1.2.1
  have hts := hF.1.2.2.2.2
  have hl : lv_has ls 3 [(0, .ref b), (1, .int p0), (2, .int p1)] := hl
  unfold c_X2_marks at h
  refine lv_aload_n hx hb dX2_marks_0 rfl (lv_at hl 0 rfl) ?_
  refine g_get hF hG sG_0 (C := RX2) (T := TX2) (N := 26) rfl in_X2 6 (by decide) q600 (fun _ h => h) (v := .ref (b + d + 6)) rfl dX2_marks_1 ?_
  refine lv_iload_n hx hb dX2_marks_4 rfl (lv_at hl 1 rfl) ?_
  refine lv_iload_n hx hb dX2_marks_5 rfl (lv_at hl 2 rfl) ?_
  refine s_wr hF hL0 hG (j := 6) (by decide) h dX2_marks_6 (fun σ1 H locs h hG => ?_)
  refine lv_aload_n hx hb dX2_marks_7 rfl (lv_at hl 0 rfl) ?_
  refine g_get hF hG sG_0 (C := RX2) (T := TX2) (N := 26) rfl in_X2 7 (by decide) q602 (fun _ h => h) (v := .ref (b + d + 7)) rfl dX2_marks_8 ?_
  refine lv_iload_n hx hb dX2_marks_11 rfl (lv_at hl 1 rfl) ?_
  refine lv_aload_n hx hb dX2_marks_12 rfl (lv_at hl 0 rfl) ?_
  refine g_get hF hG sG_0 (C := RX2) (T := TX2) (N := 26) rfl in_X2 19 (by decide) q622 (fun _ h => h) (v := .int (σ1.1 19)) rfl dX2_marks_13 ?_
  refine s_wr hF hL0 hG (j := 7) (by decide) h dX2_marks_16 (fun σ2 H locs h hG => ?_)
  refine lv_iload_n hx hb dX2_marks_17 rfl (lv_at hl 2 rfl) ?_
  refine lv_iconst (v := 3) hx hb dX2_marks_18 (by decide) ?_
  refine gb_icmp_ne hx hb dX2_marks_19 (tgt := 42) (by decide) h (fun h => ?_) (fun h => ?_)
  · have h := Option.some.inj h
    subst h
    exact g_vret hQ hG ⟨rfl, rfl, rfl⟩ (Nat.le_of_ble_eq_true rfl) (Nat.le_of_ble_eq_true rfl) dX2_marks_42
  · refine lv_aload_n hx hb dX2_marks_22 rfl (lv_at hl 0 rfl) ?_
    refine lv_dup hx hb dX2_marks_23 rfl ?_
    refine g_get hF hG sG_0 (C := RX2) (T := TX2) (N := 26) rfl in_X2 16 (by decide) q616 (fun _ h => h) (v := .int (σ2.1 16)) rfl dX2_marks_24 ?_
    refine lv_iconst (v := 1) hx hb dX2_marks_27 (by decide) ?_
    refine lv_iload_n hx hb dX2_marks_28 rfl (lv_at hl 1 rfl) ?_
    refine lv_ishl hx hb dX2_marks_29 ?_
    refine lv_ior hx hb dX2_marks_30 ?_
    refine s_putI hF hL0 hG 16 (by decide) ⟨rfl, rfl, rfl⟩ q616 h dX2_marks_31 (fun σ3 H locs h hG => ?_)
    refine lv_aload_n hx hb dX2_marks_34 rfl (lv_at hl 0 rfl) ?_
    refine g_get hF hG sG_0 (C := RX2) (T := TX2) (N := 26) rfl in_X2 11 (by decide) q610 (fun _ h => h) (v := .ref (b + d + 11)) rfl dX2_marks_35 ?_
    refine lv_iload_n hx hb dX2_marks_38 rfl (lv_at hl 1 rfl) ?_
    refine ks_add11 q832 hF hL0 hG hl (Nat.le_of_ble_eq_true rfl) (Nat.le_of_ble_eq_true rfl) h ⟨Nat.le_of_ble_eq_true rfl, Nat.le_of_ble_eq_true rfl⟩ (Nat.le_of_ble_eq_true rfl) dX2_marks_39 (fun σ4 H locs h hG => ?_)
    have h := Option.some.inj h
    subst h
    exact g_vret hQ hG ⟨rfl, rfl, rfl⟩ (Nat.le_of_ble_eq_true rfl) (Nat.le_of_ble_eq_true rfl) dX2_marks_42
theorem k_X2_marks {own : String} {index : Nat} (hq : (Cond.methodLink own index yX2_marks) ∈ lw_all) (hF : gXK p m c cc nL s args own g A R rm) (hL0 : L0 ≤ b) (hsu : suOK g.2.1 su b d G0) (hsc : suAt b d G0 sc.1 (.inl (g.2.1 0, sc.2.1, .inl sc.2.2))) (hG : gJK g L0 A s.heap (sG g.2.1 b d (su.1 0) sc σ G0) n H locs) (hl : lv_has ls nL lv) (h1 : 2 + 1 ≤ rm.frames) (h2 : 8 + (3 + 11) + 43 ≤ rm.locals) {p0 : Int32} {p1 : Int32} {f : SS → Option γ} (h : ob1 (c_X2_marks σ p0 p1) f = some o) (hc : cells ≤ rm.cells ∧ slots ≤ rm.slots) (hW : (rest.map fun v => v.category).sum ≤ 8) (hdg : decode cc pc = .ok (.invokevirtual index, 3))
    (kk : ∀ (σ1 : SS) (H1 : Heap) (locs1 : List Loc), f σ1 = some o → gJK g L0 A s.heap (sG g.2.1 b d (su.1 0) sc σ1 G0) n H1 locs1 → W p l e R s m args below meth c H1 locs1 cells slots Q (F0 m (pc + 3) ls rest)) : W p l e R s m args below meth c H locs cells slots Q (F0 m pc ls (.int p1 :: .int p0 :: .ref b :: rest)) := by
  obtain ⟨r, hr, h⟩ := ob1_e h
  refine g_callV hF hG hl sG_0 (C := RX2) (T := TX2) (N := 26) rfl (w_X2_marks hL0 hsu hsc σ p0 p1 hr) (cwV 2 hF.1.2.2.2.2 (lw_V hq q1678 qs30 q83 q1679) rfl rfl rfl (by decide +kernel) (g_room hF h1 h2)) rfl rfl hW hdg (hf0 hF.2.2.2.2 hc) (fun v G1 n1 H1 locs1 hR hG1 => ?_)
  obtain ⟨rfl, e2, e3⟩ := hR
  rw [e2, e3] at hG1
  exact kk r H1 locs1 h hG1
/-! X2_answers -/
def c_X2_answers (σ : SS) (p0 : Int32) (p1 : Int32) : Option (SS) :=
ob1 (S_rd σ 6 p0) fun (v1 : Int32) =>
oe0 (ρ := SS) (
if v1 = 2 then (
ob1 (S_rd σ 7 p0) fun (v2 : Int32) =>
if v2 = ((σ.1 19) - 1) then (
some (Sum.inl σ))
else (
some (Sum.inr ())))
else (
some (Sum.inr ()))) (fun r => some r) (
ob1 (
if p1 = 2 then (
ob1 (S_rd σ 6 p0) fun (v3 : Int32) =>
some v3)
else (
if p1 = 3 then (
some (3 : Int32))
else (
some p1))) fun (z4 : Int32) =>
ob1 (c_X2_marks σ p0 z4) fun (σ5 : SS) =>
some σ5)
set_option maxRecDepth 100000 in
theorem w_X2_answers {l : Launch} {g : gNum} {L0 b d sz : Nat} {su : SU} {sc : SC} {G0 : GH} (hL0 : L0 ≤ b) (hsu : suOK g.2.1 su b d G0) (hsc : suAt b d G0 sc.1 (.inl (g.2.1 0, sc.2.1, .inl sc.2.2))) (σ : SS) (p0 : Int32) (p1 : Int32) {out : SS} (h : c_X2_answers σ p0 p1 = some out) : gMet l yX2_answers (ws_ yX2_answers cX2_answers 3 none) g.1 clX L0 (gK g) [.ref b, .int p0, .int p1] (sG g.2.1 b d (su.1 0) sc σ G0) sz 3 65 0 0 (fun v G n => v = none ∧ G = sG g.2.1 b d (su.1 0) sc out G0 ∧ n = sz) := by
  refine gMet.of (own := RX2) (gK_ok g) (by decide +kernel) (Nat.le_of_ble_eq_true rfl) rfl ?_
  intro p e R s m args below meth c A Q ls H hF hQ hin hG hl
  have hx := hF.1.1
  have hb := hF.1.2.1
  have hts := hF.1.2.2.2.2
  have hl : lv_has ls 3 [(0, .ref b), (1, .int p0), (2, .int p1)] := hl
  unfold c_X2_answers at h
  refine lv_aload_n hx hb dX2_answers_0 rfl (lv_at hl 0 rfl) ?_
  refine g_get hF hG sG_0 (C := RX2) (T := TX2) (N := 26) rfl in_X2 6 (by decide) q600 (fun _ h => h) (v := .ref (b + d + 6)) rfl dX2_answers_1 ?_
  refine lv_iload_n hx hb dX2_answers_4 rfl (lv_at hl 1 rfl) ?_
  refine s_rd hF hG (j := 6) (by decide) h dX2_answers_5 (fun v1 h => ?_)
  refine lv_iconst (v := 2) hx hb dX2_answers_6 (by decide) ?_
  obtain ⟨X1, h, hE1, hJ1⟩ := oe0_u h
  have J1 : X1 = Sum.inr () → ∀ (H : Heap) (locs : List Loc) (ls : Array Slot), gJK g L0 A s.heap (sG g.2.1 b d (su.1 0) sc σ G0) sz H locs → lv_has ls 3 [(0, .ref b), (1, .int p0), (2, .int p1)] → W p l e R s m args below meth c H locs 0 0 Q (F0 m 26 ls []) := by
    intro  e0 H locs ls hG hl
    have h := hJ1 e0
    refine lv_aload_n hx hb dX2_answers_26 rfl (lv_at hl 0 rfl) ?_
    refine lv_iload_n hx hb dX2_answers_27 rfl (lv_at hl 1 rfl) ?_
    refine lv_iload_n hx hb dX2_answers_28 rfl (lv_at hl 2 rfl) ?_
    refine lv_iconst (v := 2) hx hb dX2_answers_29 (by decide) ?_
    obtain ⟨X2, h, hJ2⟩ := ob1_u h
    have J2 : ∀ (z4 : Int32), X2 = z4 → ∀ (H : Heap) (locs : List Loc) (ls : Array Slot), gJK g L0 A s.heap (sG g.2.1 b d (su.1 0) sc σ G0) sz H locs → lv_has ls 3 [] → W p l e R s m args below meth c H locs 0 0 Q (F0 m 52 ls [.int z4, .int p0, .ref b]) := by
      intro z4 e0 H locs ls hG hl
      have h := hJ2 z4 e0
      refine k_X2_marks q1676 hF hL0 hsu hsc hG hl (Nat.le_of_ble_eq_true rfl) (Nat.le_of_ble_eq_true rfl) h ⟨Nat.le_of_ble_eq_true rfl, Nat.le_of_ble_eq_true rfl⟩ (Nat.le_of_ble_eq_true rfl) dX2_answers_52 (fun σ5 H locs h hG => ?_)
      have h := Option.some.inj h
      subst h
      exact g_vret hQ hG ⟨rfl, rfl, rfl⟩ (Nat.le_of_ble_eq_true rfl) (Nat.le_of_ble_eq_true rfl) dX2_answers_55
    refine gb_icmp_ne hx hb dX2_answers_30 (tgt := 42) (by decide) h (fun h => ?_) (fun h => ?_)
    · refine lv_iload_n hx hb dX2_answers_42 rfl (lv_at hl 2 rfl) ?_
      refine lv_iconst (v := 3) hx hb dX2_answers_43 (by decide) ?_
      refine gb_icmp_ne hx hb dX2_answers_44 (tgt := 51) (by decide) h (fun h => ?_) (fun h => ?_)
      · refine lv_iload_n hx hb dX2_answers_51 rfl (lv_at hl 2 rfl) ?_
        exact J2 _ (Option.some.inj h).symm _ _ _ hG (lv_sub hl [] rfl)
      · refine lv_iconst (v := 3) hx hb dX2_answers_47 (by decide) ?_
        refine lv_goto hx hb dX2_answers_48 (tgt := 52) (by decide) ?_
        exact J2 _ (Option.some.inj h).symm _ _ _ hG (lv_sub hl [] rfl)
    · refine lv_aload_n hx hb dX2_answers_33 rfl (lv_at hl 0 rfl) ?_
      refine g_get hF hG sG_0 (C := RX2) (T := TX2) (N := 26) rfl in_X2 6 (by decide) q600 (fun _ h => h) (v := .ref (b + d + 6)) rfl dX2_answers_34 ?_
      refine lv_iload_n hx hb dX2_answers_37 rfl (lv_at hl 1 rfl) ?_
      refine s_rd hF hG (j := 6) (by decide) h dX2_answers_38 (fun v3 h => ?_)
      refine lv_goto hx hb dX2_answers_39 (tgt := 52) (by decide) ?_
      exact J2 _ (Option.some.inj h).symm _ _ _ hG (lv_sub hl [] rfl)
  refine gb_icmp_ne hx hb dX2_answers_7 (tgt := 26) (by decide) h (fun h => ?_) (fun h => ?_)
  · exact J1 (Option.some.inj h).symm _ _ _ hG hl
  · refine lv_aload_n hx hb dX2_answers_10 rfl (lv_at hl 0 rfl) ?_
    refine g_get hF hG sG_0 (C := RX2) (T := TX2) (N := 26) rfl in_X2 7 (by decide) q602 (fun _ h => h) (v := .ref (b + d + 7)) rfl dX2_answers_11 ?_
    refine lv_iload_n hx hb dX2_answers_14 rfl (lv_at hl 1 rfl) ?_
    refine s_rd hF hG (j := 7) (by decide) h dX2_answers_15 (fun v2 h => ?_)
    refine lv_aload_n hx hb dX2_answers_16 rfl (lv_at hl 0 rfl) ?_
    refine g_get hF hG sG_0 (C := RX2) (T := TX2) (N := 26) rfl in_X2 19 (by decide) q622 (fun _ h => h) (v := .int (σ.1 19)) rfl dX2_answers_17 ?_
    refine lv_iconst (v := 1) hx hb dX2_answers_20 (by decide) ?_
    refine lv_isub hx hb dX2_answers_21 ?_
    refine gb_icmp_ne hx hb dX2_answers_22 (tgt := 26) (by decide) h (fun h => ?_) (fun h => ?_)
    · exact J1 (Option.some.inj h).symm _ _ _ hG hl
    · have h := hE1 _ (Option.some.inj h).symm
      have h := Option.some.inj h
      subst h
      exact g_vret hQ hG ⟨rfl, rfl, rfl⟩ (Nat.le_of_ble_eq_true rfl) (Nat.le_of_ble_eq_true rfl) dX2_answers_25
theorem k_X2_answers {own : String} {index : Nat} (hq : (Cond.methodLink own index yX2_answers) ∈ lw_all) (hF : gXK p m c cc nL s args own g A R rm) (hL0 : L0 ≤ b) (hsu : suOK g.2.1 su b d G0) (hsc : suAt b d G0 sc.1 (.inl (g.2.1 0, sc.2.1, .inl sc.2.2))) (hG : gJK g L0 A s.heap (sG g.2.1 b d (su.1 0) sc σ G0) n H locs) (hl : lv_has ls nL lv) (h1 : 3 + 1 ≤ rm.frames) (h2 : 8 + (3 + 11) + 65 ≤ rm.locals) {p0 : Int32} {p1 : Int32} {f : SS → Option γ} (h : ob1 (c_X2_answers σ p0 p1) f = some o) (hc : cells ≤ rm.cells ∧ slots ≤ rm.slots) (hW : (rest.map fun v => v.category).sum ≤ 8) (hdg : decode cc pc = .ok (.invokevirtual index, 3))
    (kk : ∀ (σ1 : SS) (H1 : Heap) (locs1 : List Loc), f σ1 = some o → gJK g L0 A s.heap (sG g.2.1 b d (su.1 0) sc σ1 G0) n H1 locs1 → W p l e R s m args below meth c H1 locs1 cells slots Q (F0 m (pc + 3) ls rest)) : W p l e R s m args below meth c H locs cells slots Q (F0 m pc ls (.int p1 :: .int p0 :: .ref b :: rest)) := by
  obtain ⟨r, hr, h⟩ := ob1_e h
  refine g_callV hF hG hl sG_0 (C := RX2) (T := TX2) (N := 26) rfl (w_X2_answers hL0 hsu hsc σ p0 p1 hr) (cwV 2 hF.1.2.2.2.2 (lw_V hq q1682 qs31 q83 q1683) rfl rfl rfl (by decide +kernel) (g_room hF h1 h2)) rfl rfl hW hdg (hf0 hF.2.2.2.2 hc) (fun v G1 n1 H1 locs1 hR hG1 => ?_)
  obtain ⟨rfl, e2, e3⟩ := hR
  rw [e2, e3] at hG1
  exact kk r H1 locs1 h hG1
/-! X2_comes -/
def c_X2_comes (su : SU) (σ : SS) (p0 : Int32) (p1 : Int32) (p2 : Int32) : Option (SS) :=
if p0 = 0 then (
ob1 (S_rd σ 6 p1) fun (v1 : Int32) =>
oe0 (ρ := SS) (
if v1 = 0 then (
some (Sum.inr ()))
else (
ob1 (S_rd σ 6 p1) fun (v2 : Int32) =>
if v2 = 3 then (
some (Sum.inr ()))
else (
some (Sum.inl σ)))) (fun r => some r) (
ob1 (c_X2_marks σ p1 1) fun (σ3 : SS) =>
some σ3))
else if p0 = 1 then (
ob1 (c_X2_marks σ p1 3) fun (σ4 : SS) =>
some σ4)
else if p0 = 2 then (
ob1 (c_X2_marks σ p1 0) fun (σ5 : SS) =>
some σ5)
else if p0 = 3 then (
ob1 (c_X2_answers σ p1 p2) fun (σ6 : SS) =>
some σ6)
else if p0 = 4 then (
ob1 (S_rd σ 1 p1) fun (v7 : Int32) =>
if v7 = 1 then (
ob1 (S_wr σ 1 p1 2) fun (σ8 : SS) =>
ob1 (U_at su p1) fun (i9 : Nat) =>
ob1 (S_wr σ8 2 p1 (U_o su i9 4)) fun (σ10 : SS) =>
ob1 (S_rd σ10 3 p1) fun (v11 : Int32) =>
ob1 (S_wr σ10 3 p1 (v11 + 1)) fun (σ12 : SS) =>
some σ12)
else (
some σ))
else (
nm (S_sf σ 14 ((σ.1 14) ||| (1 <<< (p1 &&& 31)))) fun (σ13 : SS) =>
some σ13)
set_option maxRecDepth 100000 in
theorem w_X2_comes {l : Launch} {g : gNum} {L0 b d sz : Nat} {su : SU} {sc : SC} {G0 : GH} (hL0 : L0 ≤ b) (hsu : suOK g.2.1 su b d G0) (hsc : suAt b d G0 sc.1 (.inl (g.2.1 0, sc.2.1, .inl sc.2.2))) (σ : SS) (p0 : Int32) (p1 : Int32) (p2 : Int32) {out : SS} (h : c_X2_comes su σ p0 p1 p2 = some out) : gMet l yX2_comes (ws_ yX2_comes cX2_comes 4 none) g.1 clX L0 (gK g) [.ref b, .int p0, .int p1, .int p2] (sG g.2.1 b d (su.1 0) sc σ G0) sz 4 87 0 0 (fun v G n => v = none ∧ G = sG g.2.1 b d (su.1 0) sc out G0 ∧ n = sz) := by
  refine gMet.of (own := RX2) (gK_ok g) (by decide +kernel) (Nat.le_of_ble_eq_true rfl) rfl ?_
  intro p e R s m args below meth c A Q ls H hF hQ hin hG hl
  have hx := hF.1.1
  have hb := hF.1.2.1
  have hts := hF.1.2.2.2.2
  have hl : lv_has ls 4 [(0, .ref b), (1, .int p0), (2, .int p1), (3, .int p2)] := hl
  unfold c_X2_comes at h
  refine lv_iload_n hx hb dX2_comes_0 rfl (lv_at hl 1 rfl) ?_
  rcases gb_if h with ⟨c1, h⟩ | ⟨c1, h⟩
  · refine gb_tabIn hx hb dX2_comes_1 c1 (by decide) (by decide) rfl (tgt := 36) (by decide) ?_
    refine lv_aload_n hx hb dX2_comes_36 rfl (lv_at hl 0 rfl) ?_
    refine g_get hF hG sG_0 (C := RX2) (T := TX2) (N := 26) rfl in_X2 6 (by decide) q600 (fun _ h => h) (v := .ref (b + d + 6)) rfl dX2_comes_37 ?_
    refine lv_iload_n hx hb dX2_comes_40 rfl (lv_at hl 2 rfl) ?_
    refine s_rd hF hG (j := 6) (by decide) h dX2_comes_41 (fun v1 h => ?_)
    obtain ⟨X2, h, hE2, hJ2⟩ := oe0_u h
    have J2 : X2 = Sum.inr () → ∀ (H : Heap) (locs : List Loc) (ls : Array Slot), gJK g L0 A s.heap (sG g.2.1 b d (su.1 0) sc σ G0) sz H locs → lv_has ls 4 [(0, .ref b), (2, .int p1)] → W p l e R s m args below meth c H locs 0 0 Q (F0 m 55 ls []) := by
      intro  e0 H locs ls hG hl
      have h := hJ2 e0
      refine lv_aload_n hx hb dX2_comes_55 rfl (lv_at hl 0 rfl) ?_
      refine lv_iload_n hx hb dX2_comes_56 rfl (lv_at hl 1 rfl) ?_
      refine lv_iconst (v := 1) hx hb dX2_comes_57 (by decide) ?_
      refine k_X2_marks q1676 hF hL0 hsu hsc hG hl (Nat.le_of_ble_eq_true rfl) (Nat.le_of_ble_eq_true rfl) h ⟨Nat.le_of_ble_eq_true rfl, Nat.le_of_ble_eq_true rfl⟩ (Nat.le_of_ble_eq_true rfl) dX2_comes_58 (fun σ3 H locs h hG => ?_)
      refine lv_goto hx hb dX2_comes_61 (tgt := 147) (by decide) ?_
      have h := Option.some.inj h
      subst h
      exact g_vret hQ hG ⟨rfl, rfl, rfl⟩ (Nat.le_of_ble_eq_true rfl) (Nat.le_of_ble_eq_true rfl) dX2_comes_147
    refine gb_if_eq hx hb dX2_comes_42 (tgt := 55) (by decide) h (fun h => ?_) (fun h => ?_)
    · exact J2 (Option.some.inj h).symm _ _ _ hG (lv_sub hl [0, 2] rfl)
    · refine lv_aload_n hx hb dX2_comes_45 rfl (lv_at hl 0 rfl) ?_
      refine g_get hF hG sG_0 (C := RX2) (T := TX2) (N := 26) rfl in_X2 6 (by decide) q600 (fun _ h => h) (v := .ref (b + d + 6)) rfl dX2_comes_46 ?_
      refine lv_iload_n hx hb dX2_comes_49 rfl (lv_at hl 2 rfl) ?_
      refine s_rd hF hG (j := 6) (by decide) h dX2_comes_50 (fun v2 h => ?_)
      refine lv_iconst (v := 3) hx hb dX2_comes_51 (by decide) ?_
      refine gb_icmp_ne hx hb dX2_comes_52 (tgt := 147) (by decide) h (fun h => ?_) (fun h => ?_)
      · have h := hE2 _ (Option.some.inj h).symm
        have h := Option.some.inj h
        subst h
        exact g_vret hQ hG ⟨rfl, rfl, rfl⟩ (Nat.le_of_ble_eq_true rfl) (Nat.le_of_ble_eq_true rfl) dX2_comes_147
      · exact J2 (Option.some.inj h).symm _ _ _ hG (lv_sub hl [0, 2] rfl)
  rcases gb_if h with ⟨c3, h⟩ | ⟨c3, h⟩
  · refine gb_tabIn hx hb dX2_comes_1 c3 (by decide) (by decide) rfl (tgt := 64) (by decide) ?_
    refine lv_aload_n hx hb dX2_comes_64 rfl (lv_at hl 0 rfl) ?_
    refine lv_iload_n hx hb dX2_comes_65 rfl (lv_at hl 2 rfl) ?_
    refine lv_iconst (v := 3) hx hb dX2_comes_66 (by decide) ?_
    refine k_X2_marks q1676 hF hL0 hsu hsc hG hl (Nat.le_of_ble_eq_true rfl) (Nat.le_of_ble_eq_true rfl) h ⟨Nat.le_of_ble_eq_true rfl, Nat.le_of_ble_eq_true rfl⟩ (Nat.le_of_ble_eq_true rfl) dX2_comes_67 (fun σ4 H locs h hG => ?_)
    refine lv_goto hx hb dX2_comes_70 (tgt := 147) (by decide) ?_
    have h := Option.some.inj h
    subst h
    exact g_vret hQ hG ⟨rfl, rfl, rfl⟩ (Nat.le_of_ble_eq_true rfl) (Nat.le_of_ble_eq_true rfl) dX2_comes_147
  rcases gb_if h with ⟨c4, h⟩ | ⟨c4, h⟩
  · refine gb_tabIn hx hb dX2_comes_1 c4 (by decide) (by decide) rfl (tgt := 73) (by decide) ?_
    refine lv_aload_n hx hb dX2_comes_73 rfl (lv_at hl 0 rfl) ?_
    refine lv_iload_n hx hb dX2_comes_74 rfl (lv_at hl 2 rfl) ?_
    refine lv_iconst (v := 0) hx hb dX2_comes_75 (by decide) ?_
    refine k_X2_marks q1676 hF hL0 hsu hsc hG hl (Nat.le_of_ble_eq_true rfl) (Nat.le_of_ble_eq_true rfl) h ⟨Nat.le_of_ble_eq_true rfl, Nat.le_of_ble_eq_true rfl⟩ (Nat.le_of_ble_eq_true rfl) dX2_comes_76 (fun σ5 H locs h hG => ?_)
    refine lv_goto hx hb dX2_comes_79 (tgt := 147) (by decide) ?_
    have h := Option.some.inj h
    subst h
    exact g_vret hQ hG ⟨rfl, rfl, rfl⟩ (Nat.le_of_ble_eq_true rfl) (Nat.le_of_ble_eq_true rfl) dX2_comes_147
  rcases gb_if h with ⟨c5, h⟩ | ⟨c5, h⟩
  · refine gb_tabIn hx hb dX2_comes_1 c5 (by decide) (by decide) rfl (tgt := 82) (by decide) ?_
    refine lv_aload_n hx hb dX2_comes_82 rfl (lv_at hl 0 rfl) ?_
    refine lv_iload_n hx hb dX2_comes_83 rfl (lv_at hl 2 rfl) ?_
    refine lv_iload_n hx hb dX2_comes_84 rfl (lv_at hl 3 rfl) ?_
    refine k_X2_answers q1680 hF hL0 hsu hsc hG hl (Nat.le_of_ble_eq_true rfl) (Nat.le_of_ble_eq_true rfl) h ⟨Nat.le_of_ble_eq_true rfl, Nat.le_of_ble_eq_true rfl⟩ (Nat.le_of_ble_eq_true rfl) dX2_comes_85 (fun σ6 H locs h hG => ?_)
    refine lv_goto hx hb dX2_comes_88 (tgt := 147) (by decide) ?_
    have h := Option.some.inj h
    subst h
    exact g_vret hQ hG ⟨rfl, rfl, rfl⟩ (Nat.le_of_ble_eq_true rfl) (Nat.le_of_ble_eq_true rfl) dX2_comes_147
  rcases gb_if h with ⟨c6, h⟩ | ⟨c6, h⟩
  · refine gb_tabIn hx hb dX2_comes_1 c6 (by decide) (by decide) rfl (tgt := 91) (by decide) ?_
    refine lv_aload_n hx hb dX2_comes_91 rfl (lv_at hl 0 rfl) ?_
    refine g_get hF hG sG_0 (C := RX2) (T := TX2) (N := 26) rfl in_X2 1 (by decide) q591 (fun _ h => h) (v := .ref (b + d + 1)) rfl dX2_comes_92 ?_
    refine lv_iload_n hx hb dX2_comes_95 rfl (lv_at hl 2 rfl) ?_
    refine s_rd hF hG (j := 1) (by decide) h dX2_comes_96 (fun v7 h => ?_)
    refine lv_iconst (v := 1) hx hb dX2_comes_97 (by decide) ?_
    refine gb_icmp_ne hx hb dX2_comes_98 (tgt := 147) (by decide) h (fun h => ?_) (fun h => ?_)
    · have h := Option.some.inj h
      subst h
      exact g_vret hQ hG ⟨rfl, rfl, rfl⟩ (Nat.le_of_ble_eq_true rfl) (Nat.le_of_ble_eq_true rfl) dX2_comes_147
    · refine lv_aload_n hx hb dX2_comes_101 rfl (lv_at hl 0 rfl) ?_
      refine g_get hF hG sG_0 (C := RX2) (T := TX2) (N := 26) rfl in_X2 1 (by decide) q591 (fun _ h => h) (v := .ref (b + d + 1)) rfl dX2_comes_102 ?_
      refine lv_iload_n hx hb dX2_comes_105 rfl (lv_at hl 2 rfl) ?_
      refine lv_iconst (v := 2) hx hb dX2_comes_106 (by decide) ?_
      refine s_wr hF hL0 hG (j := 1) (by decide) h dX2_comes_107 (fun σ8 H locs h hG => ?_)
      refine lv_aload_n hx hb dX2_comes_108 rfl (lv_at hl 0 rfl) ?_
      refine g_get hF hG sG_0 (C := RX2) (T := TX2) (N := 26) rfl in_X2 2 (by decide) q593 (fun _ h => h) (v := .ref (b + d + 2)) rfl dX2_comes_109 ?_
      refine lv_iload_n hx hb dX2_comes_112 rfl (lv_at hl 2 rfl) ?_
      refine lv_aload_n hx hb dX2_comes_113 rfl (lv_at hl 0 rfl) ?_
      refine lv_iload_n hx hb dX2_comes_114 rfl (lv_at hl 2 rfl) ?_
      refine ks_at q788 hF hsu hG hl (Nat.le_of_ble_eq_true rfl) (Nat.le_of_ble_eq_true rfl) h ⟨Nat.le_of_ble_eq_true rfl, Nat.le_of_ble_eq_true rfl⟩ (Nat.le_of_ble_eq_true rfl) dX2_comes_115 (fun i9 H locs hi_i9 h hG => ?_)
      refine ks_out hF (su_of hsu) hG hi_i9 4 (by decide) rfl q1251 dX2_comes_118 ?_
      refine s_wr hF hL0 hG (j := 2) (by decide) h dX2_comes_121 (fun σ10 H locs h hG => ?_)
      refine lv_aload_n hx hb dX2_comes_122 rfl (lv_at hl 0 rfl) ?_
      refine g_get hF hG sG_0 (C := RX2) (T := TX2) (N := 26) rfl in_X2 3 (by decide) q595 (fun _ h => h) (v := .ref (b + d + 3)) rfl dX2_comes_123 ?_
      refine lv_iload_n hx hb dX2_comes_126 rfl (lv_at hl 2 rfl) ?_
      refine lv_dup2_11 hx hb dX2_comes_127 rfl rfl ?_
      refine s_rd hF hG (j := 3) (by decide) h dX2_comes_128 (fun v11 h => ?_)
      refine lv_iconst (v := 1) hx hb dX2_comes_129 (by decide) ?_
      refine lv_iadd hx hb dX2_comes_130 ?_
      refine s_wr hF hL0 hG (j := 3) (by decide) h dX2_comes_131 (fun σ12 H locs h hG => ?_)
      refine lv_goto hx hb dX2_comes_132 (tgt := 147) (by decide) ?_
      have h := Option.some.inj h
      subst h
      exact g_vret hQ hG ⟨rfl, rfl, rfl⟩ (Nat.le_of_ble_eq_true rfl) (Nat.le_of_ble_eq_true rfl) dX2_comes_147
  refine lv_tableOut hx hb dX2_comes_1 ?_ (tgt := 135) (by decide) ?_
  · have e1 := lv_neT c1 (a := 0) (by decide)
    have e3 := lv_neT c3 (a := 1) (by decide)
    have e4 := lv_neT c4 (a := 2) (by decide)
    have e5 := lv_neT c5 (a := 3) (by decide)
    have e6 := lv_neT c6 (a := 4) (by decide)
    omega
  refine lv_aload_n hx hb dX2_comes_135 rfl (lv_at hl 0 rfl) ?_
  refine lv_dup hx hb dX2_comes_136 rfl ?_
  refine g_get hF hG sG_0 (C := RX2) (T := TX2) (N := 26) rfl in_X2 14 (by decide) q614 (fun _ h => h) (v := .int (σ.1 14)) rfl dX2_comes_137 ?_
  refine lv_iconst (v := 1) hx hb dX2_comes_140 (by decide) ?_
  refine lv_iload_n hx hb dX2_comes_141 rfl (lv_at hl 2 rfl) ?_
  refine lv_ishl hx hb dX2_comes_142 ?_
  refine lv_ior hx hb dX2_comes_143 ?_
  refine s_putI hF hL0 hG 14 (by decide) ⟨rfl, rfl, rfl⟩ q614 h dX2_comes_144 (fun σ13 H locs h hG => ?_)
  have h := Option.some.inj h
  subst h
  exact g_vret hQ hG ⟨rfl, rfl, rfl⟩ (Nat.le_of_ble_eq_true rfl) (Nat.le_of_ble_eq_true rfl) dX2_comes_147
theorem k_X2_comes {own : String} {index : Nat} (hq : (Cond.methodLink own index yX2_comes) ∈ lw_all) (hF : gXK p m c cc nL s args own g A R rm) (hL0 : L0 ≤ b) (hsu : suOK g.2.1 su b d G0) (hsc : suAt b d G0 sc.1 (.inl (g.2.1 0, sc.2.1, .inl sc.2.2))) (hG : gJK g L0 A s.heap (sG g.2.1 b d (su.1 0) sc σ G0) n H locs) (hl : lv_has ls nL lv) (h1 : 4 + 1 ≤ rm.frames) (h2 : 8 + (4 + 11) + 87 ≤ rm.locals) {p0 : Int32} {p1 : Int32} {p2 : Int32} {f : SS → Option γ} (h : ob1 (c_X2_comes su σ p0 p1 p2) f = some o) (hc : cells ≤ rm.cells ∧ slots ≤ rm.slots) (hW : (rest.map fun v => v.category).sum ≤ 8) (hdg : decode cc pc = .ok (.invokevirtual index, 3))
    (kk : ∀ (σ1 : SS) (H1 : Heap) (locs1 : List Loc), f σ1 = some o → gJK g L0 A s.heap (sG g.2.1 b d (su.1 0) sc σ1 G0) n H1 locs1 → W p l e R s m args below meth c H1 locs1 cells slots Q (F0 m (pc + 3) ls rest)) : W p l e R s m args below meth c H locs cells slots Q (F0 m pc ls (.int p2 :: .int p1 :: .int p0 :: .ref b :: rest)) := by
  obtain ⟨r, hr, h⟩ := ob1_e h
  refine g_callV hF hG hl sG_0 (C := RX2) (T := TX2) (N := 26) rfl (w_X2_comes hL0 hsu hsc σ p0 p1 p2 hr) (cwV 3 hF.1.2.2.2.2 (lw_V hq q1674 qs29 q83 q1675) rfl rfl rfl (by decide +kernel) (g_room hF h1 h2)) rfl rfl hW hdg (hf0 hF.2.2.2.2 hc) (fun v G1 n1 H1 locs1 hR hG1 => ?_)
  obtain ⟨rfl, e2, e3⟩ := hR
  rw [e2, e3] at hG1
  exact kk r H1 locs1 h hG1
/-! X2_receives -/
def c_X2_receives_L4 (su : SU) (x1 : Int32) : Nat → Int32 → SS → Option (SS)
  | 0, _, _ => none
  | n + 1, y5, σ6 =>
    if x1 ≤ y5 then (
    some σ6)
    else (
    ob1 (S_rd σ6 13 y5) fun (v7 : Int32) =>
    ob1 (S_rd σ6 13 y5) fun (v8 : Int32) =>
    ob1 (S_rd σ6 13 y5) fun (v9 : Int32) =>
    ob1 (c_X2_comes su σ6 (v7 / 256) ((v8 / 16) - (v8 / 16) / 16 * 16) ((v9 - v9 / 16 * 16) - 1)) fun (σ10 : SS) =>
    nm (y5 + 1) fun (x11 : Int32) =>
    c_X2_receives_L4 su x1 n x11 σ10)
def c_X2_receives (su : SU) (σ : SS) : Option (SS) :=
nm (σ.1 32) fun (x1 : Int32) =>
ob1 (cpF (sL 15) (sL 13) (σ.2 15) (σ.2 13) 0 0 x1) fun (rw : Nat → Int32) => nm (S_sA σ 13 rw) fun (σ2 : SS) =>
nm (S_sf σ2 32 0) fun (σ3 : SS) =>
ob1 (
c_X2_receives_L4 su x1 4096 0 σ3) fun (σ12 : SS) =>
ob1 (c_X2_rights su σ12) fun (v13 : Int32) =>
if v13 = 0 then (
some σ12)
else (
ob1 (c_X2_withMark su σ12 3) fun (v14 : Int32) =>
if (v13 &&& (v14 ^^^ (-1))) = 0 then (
nm (S_sf (S_sA σ12 10 (va_cpy (σ12.2 12) (σ12.2 10) 0 0 12)) 30 (σ12.1 31)) fun (σ15 : SS) =>
some σ15)
else (
some σ12))
set_option maxRecDepth 100000 in
theorem w_X2_receives {l : Launch} {g : gNum} {L0 b d sz : Nat} {su : SU} {sc : SC} {G0 : GH} (hL0 : L0 ≤ b) (hsu : suOK g.2.1 su b d G0) (hsc : suAt b d G0 sc.1 (.inl (g.2.1 0, sc.2.1, .inl sc.2.2))) (σ : SS) {out : SS} (h : c_X2_receives su σ = some out) : gMet l yX2_receives (ws_ yX2_receives cX2_receives 3 none) g.1 clX L0 (gK g) [.ref b] (sG g.2.1 b d (su.1 0) sc σ G0) sz 5 121 0 0 (fun v G n => v = none ∧ G = sG g.2.1 b d (su.1 0) sc out G0 ∧ n = sz) := by
  refine gMet.of (own := RX2) (gK_ok g) (by decide +kernel) (Nat.le_of_ble_eq_true rfl) rfl ?_
  intro p e R s m args below meth c A Q ls H hF hQ hin hG hl
  have hx := hF.1.1
  have hb := hF.1.2.1
  have hts := hF.1.2.2.2.2
  have hl : lv_has ls 3 [(0, .ref b)] := hl
  unfold c_X2_receives at h
  refine lv_aload_n hx hb dX2_receives_0 rfl (lv_at hl 0 rfl) ?_
  refine g_get hF hG sG_0 (C := RX2) (T := TX2) (N := 26) rfl in_X2 9 (by decide) q606 (fun _ h => h) (v := .ref (b + d + 14)) rfl dX2_receives_1 ?_
  refine g_getN hF hG sG_14 (C := RX5) (T := TX5) (N := 5) rfl in_X5 3 (by decide) q574 (fun _ h => h) (v := .int (σ.1 32)) rfl dX2_receives_4 ?_
  refine gb_nm h (fun x1 h => ?_)
  refine lv_istore_n hx hb dX2_receives_7 rfl hl (Nat.le_of_ble_eq_true rfl) (lv' := [(1, .int x1), (0, .ref b)]) rfl (fun ls hl => ?_)
  refine lv_aload_n hx hb dX2_receives_8 rfl (lv_at hl 1 rfl) ?_
  refine g_get hF hG sG_0 (C := RX2) (T := TX2) (N := 26) rfl in_X2 9 (by decide) q606 (fun _ h => h) (v := .ref (b + d + 14)) rfl dX2_receives_9 ?_
  refine g_getN hF hG sG_14 (C := RX5) (T := TX5) (N := 5) rfl in_X5 0 (by decide) q567 (fun _ h => h) (v := .ref (b + d + 15)) rfl dX2_receives_12 ?_
  refine lv_iconst (v := 0) hx hb dX2_receives_15 (by decide) ?_
  refine lv_aload_n hx hb dX2_receives_16 rfl (lv_at hl 1 rfl) ?_
  refine g_get hF hG sG_0 (C := RX2) (T := TX2) (N := 26) rfl in_X2 12 (by decide) q611 (fun _ h => h) (v := .ref (b + d + 13)) rfl dX2_receives_17 ?_
  refine lv_iconst (v := 0) hx hb dX2_receives_20 (by decide) ?_
  refine lv_iload_n hx hb dX2_receives_21 rfl (lv_at hl 0 rfl) ?_
  refine s_cp hF hL0 hG hl q962 (j0 := 15) (j1 := 13) (by decide) (by decide) h (Nat.le_of_ble_eq_true rfl) (by show _ ≤ _; exact Nat.le_of_ble_eq_true rfl) dX2_receives_22 (fun σ2 H locs h hG => ?_)
  refine lv_aload_n hx hb dX2_receives_25 rfl (lv_at hl 1 rfl) ?_
  refine g_get hF hG sG_0 (C := RX2) (T := TX2) (N := 26) rfl in_X2 9 (by decide) q606 (fun _ h => h) (v := .ref (b + d + 14)) rfl dX2_receives_26 ?_
  refine lv_iconst (v := 0) hx hb dX2_receives_29 (by decide) ?_
  refine s_putWN hF hL0 hG q574 h dX2_receives_30 (fun σ3 H locs h hG => ?_)
  refine lv_iconst (v := 0) hx hb dX2_receives_33 (by decide) ?_
  refine lv_istore_n hx hb dX2_receives_34 rfl hl (Nat.le_of_ble_eq_true rfl) (lv' := [(2, .int 0), (1, .int x1), (0, .ref b)]) rfl (fun ls hl => ?_)
  obtain ⟨X1, h, hJ1⟩ := ob1_u h
  have J1 : ∀ (σ12 : SS), X1 = σ12 → ∀ (H : Heap) (locs : List Loc) (ls : Array Slot), gJK g L0 A s.heap (sG g.2.1 b d (su.1 0) sc σ12 G0) sz H locs → lv_has ls 3 [(0, .ref b)] → W p l e R s m args below meth c H locs 0 0 Q (F0 m 83 ls []) := by
    intro σ12 e0 H locs ls hG hl
    have h := hJ1 σ12 e0
    refine lv_aload_n hx hb dX2_receives_83 rfl (lv_at hl 0 rfl) ?_
    refine k_X2_rights q1684 hF hL0 hsu hsc hG hl (Nat.le_of_ble_eq_true rfl) (Nat.le_of_ble_eq_true rfl) h ⟨Nat.le_of_ble_eq_true rfl, Nat.le_of_ble_eq_true rfl⟩ (Nat.le_of_ble_eq_true rfl) dX2_receives_84 (fun v13 H locs h hG => ?_)
    refine lv_istore_n hx hb dX2_receives_87 rfl hl (Nat.le_of_ble_eq_true rfl) (lv' := [(2, .int v13), (0, .ref b)]) rfl (fun ls hl => ?_)
    refine lv_iload_n hx hb dX2_receives_88 rfl (lv_at hl 0 rfl) ?_
    refine gb_if_eq hx hb dX2_receives_89 (tgt := 115) (by decide) h (fun h => ?_) (fun h => ?_)
    · have h := Option.some.inj h
      subst h
      exact g_vret hQ hG ⟨rfl, rfl, rfl⟩ (Nat.le_of_ble_eq_true rfl) (Nat.le_of_ble_eq_true rfl) dX2_receives_115
    · refine lv_iload_n hx hb dX2_receives_92 rfl (lv_at hl 0 rfl) ?_
      refine lv_aload_n hx hb dX2_receives_93 rfl (lv_at hl 1 rfl) ?_
      refine lv_iconst (v := 3) hx hb dX2_receives_94 (by decide) ?_
      refine k_X2_withMark q804 hF hL0 hsu hsc hG hl (Nat.le_of_ble_eq_true rfl) (Nat.le_of_ble_eq_true rfl) h ⟨Nat.le_of_ble_eq_true rfl, Nat.le_of_ble_eq_true rfl⟩ (Nat.le_of_ble_eq_true rfl) dX2_receives_95 (fun v14 H locs h hG => ?_)
      refine lv_iconst (v := (-1)) hx hb dX2_receives_98 (by decide) ?_
      refine lv_ixor hx hb dX2_receives_99 ?_
      refine lv_iand hx hb dX2_receives_100 ?_
      refine gb_if_ne hx hb dX2_receives_101 (tgt := 115) (by decide) h (fun h => ?_) (fun h => ?_)
      · have h := Option.some.inj h
        subst h
        exact g_vret hQ hG ⟨rfl, rfl, rfl⟩ (Nat.le_of_ble_eq_true rfl) (Nat.le_of_ble_eq_true rfl) dX2_receives_115
      · refine lv_aload_n hx hb dX2_receives_104 rfl (lv_at hl 1 rfl) ?_
        refine g_get hF hG sG_0 (C := RX2) (T := TX2) (N := 26) rfl in_X2 10 (by decide) q608 (fun _ h => h) (v := .ref (b + d + 9)) rfl dX2_receives_105 ?_
        refine lv_aload_n hx hb dX2_receives_108 rfl (lv_at hl 1 rfl) ?_
        refine g_get hF hG sG_0 (C := RX2) (T := TX2) (N := 26) rfl in_X2 11 (by decide) q610 (fun _ h => h) (v := .ref (b + d + 11)) rfl dX2_receives_109 ?_
        refine ks_become q968 hF hL0 hG hl (Nat.le_of_ble_eq_true rfl) (Nat.le_of_ble_eq_true rfl) h ⟨Nat.le_of_ble_eq_true rfl, Nat.le_of_ble_eq_true rfl⟩ (Nat.le_of_ble_eq_true rfl) dX2_receives_112 (fun σ15 H locs h hG => ?_)
        have h := Option.some.inj h
        subst h
        exact g_vret hQ hG ⟨rfl, rfl, rfl⟩ (Nat.le_of_ble_eq_true rfl) (Nat.le_of_ble_eq_true rfl) dX2_receives_115
  have LL4 : ∀ (n : Nat) (y5 : Int32) (σ6 : SS), c_X2_receives_L4 su x1 n y5 σ6 = some X1 → ∀ (H : Heap) (locs : List Loc) (ls : Array Slot), gJK g L0 A s.heap (sG g.2.1 b d (su.1 0) sc σ6 G0) sz H locs → lv_has ls 3 [(0, .ref b), (1, .int x1), (2, .int y5)] → W p l e R s m args below meth c H locs 0 0 Q (F0 m 35 ls []) := by
    intro n
    induction n with
    | zero =>
      intro y5 σ6 h
      rw [c_X2_receives_L4] at h
      cases h
    | succ n ihL4 =>
      intro y5 σ6 h H locs ls hG hl
      rw [c_X2_receives_L4] at h
      refine lv_iload_n hx hb dX2_receives_35 rfl (lv_at hl 2 rfl) ?_
      refine lv_iload_n hx hb dX2_receives_36 rfl (lv_at hl 1 rfl) ?_
      refine gb_icmp_ge hx hb dX2_receives_37 (tgt := 83) (by decide) h (fun h => ?_) (fun h => ?_)
      · exact J1 _ (Option.some.inj h).symm _ _ _ hG (lv_sub hl [0] rfl)
      · refine lv_aload_n hx hb dX2_receives_40 rfl (lv_at hl 0 rfl) ?_
        refine lv_aload_n hx hb dX2_receives_41 rfl (lv_at hl 0 rfl) ?_
        refine g_get hF hG sG_0 (C := RX2) (T := TX2) (N := 26) rfl in_X2 12 (by decide) q611 (fun _ h => h) (v := .ref (b + d + 13)) rfl dX2_receives_42 ?_
        refine lv_iload_n hx hb dX2_receives_45 rfl (lv_at hl 2 rfl) ?_
        refine s_rd hF hG (j := 13) (by decide) h dX2_receives_46 (fun v7 h => ?_)
        refine lv_sipush (v := 256) hx hb dX2_receives_47 (by decide) ?_
        refine lv_idiv hx hb dX2_receives_50 (by decide) ?_
        refine lv_aload_n hx hb dX2_receives_51 rfl (lv_at hl 0 rfl) ?_
        refine g_get hF hG sG_0 (C := RX2) (T := TX2) (N := 26) rfl in_X2 12 (by decide) q611 (fun _ h => h) (v := .ref (b + d + 13)) rfl dX2_receives_52 ?_
        refine lv_iload_n hx hb dX2_receives_55 rfl (lv_at hl 2 rfl) ?_
        refine s_rd hF hG (j := 13) (by decide) h dX2_receives_56 (fun v8 h => ?_)
        refine lv_bipush (v := 16) hx hb dX2_receives_57 (by decide) ?_
        refine lv_idiv hx hb dX2_receives_59 (by decide) ?_
        refine lv_bipush (v := 16) hx hb dX2_receives_60 (by decide) ?_
        refine lv_irem hx hb dX2_receives_62 (by decide) ?_
        refine lv_aload_n hx hb dX2_receives_63 rfl (lv_at hl 0 rfl) ?_
        refine g_get hF hG sG_0 (C := RX2) (T := TX2) (N := 26) rfl in_X2 12 (by decide) q611 (fun _ h => h) (v := .ref (b + d + 13)) rfl dX2_receives_64 ?_
        refine lv_iload_n hx hb dX2_receives_67 rfl (lv_at hl 2 rfl) ?_
        refine s_rd hF hG (j := 13) (by decide) h dX2_receives_68 (fun v9 h => ?_)
        refine lv_bipush (v := 16) hx hb dX2_receives_69 (by decide) ?_
        refine lv_irem hx hb dX2_receives_71 (by decide) ?_
        refine lv_iconst (v := 1) hx hb dX2_receives_72 (by decide) ?_
        refine lv_isub hx hb dX2_receives_73 ?_
        refine k_X2_comes q1672 hF hL0 hsu hsc hG hl (Nat.le_of_ble_eq_true rfl) (Nat.le_of_ble_eq_true rfl) h ⟨Nat.le_of_ble_eq_true rfl, Nat.le_of_ble_eq_true rfl⟩ (Nat.le_of_ble_eq_true rfl) dX2_receives_74 (fun σ10 H locs h hG => ?_)
        refine gb_iinc (k' := 1) hx hb dX2_receives_77 hl (k := 2) rfl (by decide) (Nat.le_of_ble_eq_true rfl) h (fun x11 ls h hl => ?_)
        have hl : lv_has ls 3 [(2, .int x11), (0, .ref b), (1, .int x1)] := hl
        refine lv_goto hx hb dX2_receives_80 (tgt := 35) (by decide) ?_
        exact ihL4 _ _ h _ _ _ hG (lv_sub hl [1, 2, 0] rfl)
  exact LL4 _ _ _ h _ _ _ hG (lv_sub hl [2, 1, 0] rfl)
theorem k_X2_receives {own : String} {index : Nat} (hq : (Cond.methodLink own index yX2_receives) ∈ lw_all) (hF : gXK p m c cc nL s args own g A R rm) (hL0 : L0 ≤ b) (hsu : suOK g.2.1 su b d G0) (hsc : suAt b d G0 sc.1 (.inl (g.2.1 0, sc.2.1, .inl sc.2.2))) (hG : gJK g L0 A s.heap (sG g.2.1 b d (su.1 0) sc σ G0) n H locs) (hl : lv_has ls nL lv) (h1 : 5 + 1 ≤ rm.frames) (h2 : 8 + (3 + 11) + 121 ≤ rm.locals) {f : SS → Option γ} (h : ob1 (c_X2_receives su σ) f = some o) (hc : cells ≤ rm.cells ∧ slots ≤ rm.slots) (hW : (rest.map fun v => v.category).sum ≤ 8) (hdg : decode cc pc = .ok (.invokevirtual index, 3))
    (kk : ∀ (σ1 : SS) (H1 : Heap) (locs1 : List Loc), f σ1 = some o → gJK g L0 A s.heap (sG g.2.1 b d (su.1 0) sc σ1 G0) n H1 locs1 → W p l e R s m args below meth c H1 locs1 cells slots Q (F0 m (pc + 3) ls rest)) : W p l e R s m args below meth c H locs cells slots Q (F0 m pc ls (.ref b :: rest)) := by
  obtain ⟨r, hr, h⟩ := ob1_e h
  refine g_callV hF hG hl sG_0 (C := RX2) (T := TX2) (N := 26) rfl (w_X2_receives hL0 hsu hsc σ hr) (cwV 0 hF.1.2.2.2.2 (lw_V hq q1670 qs28 q83 q1671) rfl rfl rfl (by decide +kernel) (g_room hF h1 h2)) rfl rfl hW hdg (hf0 hF.2.2.2.2 hc) (fun v G1 n1 H1 locs1 hR hG1 => ?_)
  obtain ⟨rfl, e2, e3⟩ := hR
  rw [e2, e3] at hG1
  exact kk r H1 locs1 h hG1
/-! X2_acts -/
def c_X2_acts (sc : SC) (σ : SS) (p0 : Int32) : Option (SS) :=
ob1 (S_rd σ 1 p0) fun (v1 : Int32) =>
ob1 (
if v1 = 2 then (
ob1 (S_rd σ 2 p0) fun (v2 : Int32) =>
if v2 = 0 then (
ob1 (S_wr σ 1 p0 3) fun (σ3 : SS) =>
ob1 (S_wr σ3 4 p0 (σ3.1 19)) fun (σ4 : SS) =>
ob1 (c_X5_send sc σ4 1 p0 (-1)) fun (σ5 : SS) =>
some σ5)
else (
some σ))
else (
some σ)) fun (σ6 : SS) =>
ob1 (j_X1_has (σ6.1 15) p0) fun (v7 : Int32) =>
ob1 (
if v7 = 0 then (
some σ6)
else (
nm (S_sf σ6 15 ((σ6.1 15) &&& ((1 <<< (p0 &&& 31)) ^^^ (-1)))) fun (σ8 : SS) =>
ob1 (c_X5_send sc σ8 2 p0 (-1)) fun (σ9 : SS) =>
some σ9)) fun (σ10 : SS) =>
ob1 (j_X1_has (σ10.1 14) p0) fun (v11 : Int32) =>
ob1 (
if v11 = 0 then (
some σ10)
else (
nm (S_sf σ10 14 ((σ10.1 14) &&& ((1 <<< (p0 &&& 31)) ^^^ (-1)))) fun (σ12 : SS) =>
ob1 (S_rd σ12 1 p0) fun (v13 : Int32) =>
ob1 (c_X5_send sc σ12 3 p0 v13) fun (σ14 : SS) =>
some σ14)) fun (σ15 : SS) =>
ob1 (S_rd σ15 1 p0) fun (v16 : Int32) =>
if v16 = 1 then (
ob1 (S_rd σ15 5 p0) fun (v17 : Int32) =>
oe0 (ρ := SS) (
if v17 = (-1) then (
some (Sum.inr ()))
else (
ob1 (S_rd σ15 5 p0) fun (v18 : Int32) =>
if ((σ15.1 19) - v18) < (σ15.1 18) then (
some (Sum.inl σ15))
else (
some (Sum.inr ())))) (fun r => some r) (
ob1 (S_wr σ15 5 p0 (σ15.1 19)) fun (σ19 : SS) =>
ob1 (c_X5_send sc σ19 0 p0 (-1)) fun (σ20 : SS) =>
some σ20))
else (
some σ15)
set_option maxRecDepth 100000 in
theorem w_X2_acts {l : Launch} {g : gNum} {L0 b d sz : Nat} {su : SU} {sc : SC} {G0 : GH} (hL0 : L0 ≤ b) (hsu : suOK g.2.1 su b d G0) (hsc : suAt b d G0 sc.1 (.inl (g.2.1 0, sc.2.1, .inl sc.2.2))) (σ : SS) (p0 : Int32) {out : SS} (h : c_X2_acts sc σ p0 = some out) : gMet l yX2_acts (ws_ yX2_acts cX2_acts 2 none) g.1 clX L0 (gK g) [.ref b, .int p0] (sG g.2.1 b d (su.1 0) sc σ G0) sz 2 49 0 0 (fun v G n => v = none ∧ G = sG g.2.1 b d (su.1 0) sc out G0 ∧ n = sz) := by
  refine gMet.of (own := RX2) (gK_ok g) (by decide +kernel) (Nat.le_of_ble_eq_true rfl) rfl ?_
  intro p e R s m args below meth c A Q ls H hF hQ hin hG hl
  have hx := hF.1.1
  have hb := hF.1.2.1
  have hts := hF.1.2.2.2.2
  have hl : lv_has ls 2 [(0, .ref b), (1, .int p0)] := hl
  unfold c_X2_acts at h
  refine lv_aload_n hx hb dX2_acts_0 rfl (lv_at hl 0 rfl) ?_
  refine g_get hF hG sG_0 (C := RX2) (T := TX2) (N := 26) rfl in_X2 1 (by decide) q591 (fun _ h => h) (v := .ref (b + d + 1)) rfl dX2_acts_1 ?_
  refine lv_iload_n hx hb dX2_acts_4 rfl (lv_at hl 1 rfl) ?_
  refine s_rd hF hG (j := 1) (by decide) h dX2_acts_5 (fun v1 h => ?_)
  refine lv_iconst (v := 2) hx hb dX2_acts_6 (by decide) ?_
  obtain ⟨X1, h, hJ1⟩ := ob1_u h
  have J1 : ∀ (σ6 : SS), X1 = σ6 → ∀ (H : Heap) (locs : List Loc) (ls : Array Slot), gJK g L0 A s.heap (sG g.2.1 b d (su.1 0) sc σ6 G0) sz H locs → lv_has ls 2 [(0, .ref b), (1, .int p0)] → W p l e R s m args below meth c H locs 0 0 Q (F0 m 46 ls []) := by
    intro σ6 e0 H locs ls hG hl
    have h := hJ1 σ6 e0
    refine lv_aload_n hx hb dX2_acts_46 rfl (lv_at hl 0 rfl) ?_
    refine g_get hF hG sG_0 (C := RX2) (T := TX2) (N := 26) rfl in_X2 15 (by decide) q615 (fun _ h => h) (v := .int (σ6.1 15)) rfl dX2_acts_47 ?_
    refine lv_iload_n hx hb dX2_acts_50 rfl (lv_at hl 1 rfl) ?_
    refine ks_hasN q707 hF hG hl (Nat.le_of_ble_eq_true rfl) (Nat.le_of_ble_eq_true rfl) h ⟨Nat.le_of_ble_eq_true rfl, Nat.le_of_ble_eq_true rfl⟩ (Nat.le_of_ble_eq_true rfl) dX2_acts_51 (fun v7 H locs h hG => ?_)
    obtain ⟨X2, h, hJ2⟩ := ob1_u h
    have J2 : ∀ (σ10 : SS), X2 = σ10 → ∀ (H : Heap) (locs : List Loc) (ls : Array Slot), gJK g L0 A s.heap (sG g.2.1 b d (su.1 0) sc σ10 G0) sz H locs → lv_has ls 2 [(0, .ref b), (1, .int p0)] → W p l e R s m args below meth c H locs 0 0 Q (F0 m 81 ls []) := by
      intro σ10 e0 H locs ls hG hl
      have h := hJ2 σ10 e0
      refine lv_aload_n hx hb dX2_acts_81 rfl (lv_at hl 0 rfl) ?_
      refine g_get hF hG sG_0 (C := RX2) (T := TX2) (N := 26) rfl in_X2 14 (by decide) q614 (fun _ h => h) (v := .int (σ10.1 14)) rfl dX2_acts_82 ?_
      refine lv_iload_n hx hb dX2_acts_85 rfl (lv_at hl 1 rfl) ?_
      refine ks_hasN q707 hF hG hl (Nat.le_of_ble_eq_true rfl) (Nat.le_of_ble_eq_true rfl) h ⟨Nat.le_of_ble_eq_true rfl, Nat.le_of_ble_eq_true rfl⟩ (Nat.le_of_ble_eq_true rfl) dX2_acts_86 (fun v11 H locs h hG => ?_)
      obtain ⟨X3, h, hJ3⟩ := ob1_u h
      have J3 : ∀ (σ15 : SS), X3 = σ15 → ∀ (H : Heap) (locs : List Loc) (ls : Array Slot), gJK g L0 A s.heap (sG g.2.1 b d (su.1 0) sc σ15 G0) sz H locs → lv_has ls 2 [(0, .ref b), (1, .int p0)] → W p l e R s m args below meth c H locs 0 0 Q (F0 m 121 ls []) := by
        intro σ15 e0 H locs ls hG hl
        have h := hJ3 σ15 e0
        refine lv_aload_n hx hb dX2_acts_121 rfl (lv_at hl 0 rfl) ?_
        refine g_get hF hG sG_0 (C := RX2) (T := TX2) (N := 26) rfl in_X2 1 (by decide) q591 (fun _ h => h) (v := .ref (b + d + 1)) rfl dX2_acts_122 ?_
        refine lv_iload_n hx hb dX2_acts_125 rfl (lv_at hl 1 rfl) ?_
        refine s_rd hF hG (j := 1) (by decide) h dX2_acts_126 (fun v16 h => ?_)
        refine lv_iconst (v := 1) hx hb dX2_acts_127 (by decide) ?_
        refine gb_icmp_ne hx hb dX2_acts_128 (tgt := 179) (by decide) h (fun h => ?_) (fun h => ?_)
        · have h := Option.some.inj h
          subst h
          exact g_vret hQ hG ⟨rfl, rfl, rfl⟩ (Nat.le_of_ble_eq_true rfl) (Nat.le_of_ble_eq_true rfl) dX2_acts_179
        · refine lv_aload_n hx hb dX2_acts_131 rfl (lv_at hl 0 rfl) ?_
          refine g_get hF hG sG_0 (C := RX2) (T := TX2) (N := 26) rfl in_X2 5 (by decide) q599 (fun _ h => h) (v := .ref (b + d + 5)) rfl dX2_acts_132 ?_
          refine lv_iload_n hx hb dX2_acts_135 rfl (lv_at hl 1 rfl) ?_
          refine s_rd hF hG (j := 5) (by decide) h dX2_acts_136 (fun v17 h => ?_)
          refine lv_iconst (v := (-1)) hx hb dX2_acts_137 (by decide) ?_
          obtain ⟨X4, h, hE4, hJ4⟩ := oe0_u h
          have J4 : X4 = Sum.inr () → ∀ (H : Heap) (locs : List Loc) (ls : Array Slot), gJK g L0 A s.heap (sG g.2.1 b d (su.1 0) sc σ15 G0) sz H locs → lv_has ls 2 [(0, .ref b), (1, .int p0)] → W p l e R s m args below meth c H locs 0 0 Q (F0 m 159 ls []) := by
            intro  e0 H locs ls hG hl
            have h := hJ4 e0
            refine lv_aload_n hx hb dX2_acts_159 rfl (lv_at hl 0 rfl) ?_
            refine g_get hF hG sG_0 (C := RX2) (T := TX2) (N := 26) rfl in_X2 5 (by decide) q599 (fun _ h => h) (v := .ref (b + d + 5)) rfl dX2_acts_160 ?_
            refine lv_iload_n hx hb dX2_acts_163 rfl (lv_at hl 1 rfl) ?_
            refine lv_aload_n hx hb dX2_acts_164 rfl (lv_at hl 0 rfl) ?_
            refine g_get hF hG sG_0 (C := RX2) (T := TX2) (N := 26) rfl in_X2 19 (by decide) q622 (fun _ h => h) (v := .int (σ15.1 19)) rfl dX2_acts_165 ?_
            refine s_wr hF hL0 hG (j := 5) (by decide) h dX2_acts_168 (fun σ19 H locs h hG => ?_)
            refine lv_aload_n hx hb dX2_acts_169 rfl (lv_at hl 0 rfl) ?_
            refine g_get hF hG sG_0 (C := RX2) (T := TX2) (N := 26) rfl in_X2 9 (by decide) q606 (fun _ h => h) (v := .ref (b + d + 14)) rfl dX2_acts_170 ?_
            refine lv_iconst (v := 0) hx hb dX2_acts_173 (by decide) ?_
            refine lv_iload_n hx hb dX2_acts_174 rfl (lv_at hl 1 rfl) ?_
            refine lv_iconst (v := (-1)) hx hb dX2_acts_175 (by decide) ?_
            refine k_X5_send q1689 hF hL0 hsu hsc hG hl (Nat.le_of_ble_eq_true rfl) (Nat.le_of_ble_eq_true rfl) h ⟨Nat.le_of_ble_eq_true rfl, Nat.le_of_ble_eq_true rfl⟩ (Nat.le_of_ble_eq_true rfl) dX2_acts_176 (fun σ20 H locs h hG => ?_)
            have h := Option.some.inj h
            subst h
            exact g_vret hQ hG ⟨rfl, rfl, rfl⟩ (Nat.le_of_ble_eq_true rfl) (Nat.le_of_ble_eq_true rfl) dX2_acts_179
          refine gb_icmp_eq hx hb dX2_acts_138 (tgt := 159) (by decide) h (fun h => ?_) (fun h => ?_)
          · exact J4 (Option.some.inj h).symm _ _ _ hG hl
          · refine lv_aload_n hx hb dX2_acts_141 rfl (lv_at hl 0 rfl) ?_
            refine g_get hF hG sG_0 (C := RX2) (T := TX2) (N := 26) rfl in_X2 19 (by decide) q622 (fun _ h => h) (v := .int (σ15.1 19)) rfl dX2_acts_142 ?_
            refine lv_aload_n hx hb dX2_acts_145 rfl (lv_at hl 0 rfl) ?_
            refine g_get hF hG sG_0 (C := RX2) (T := TX2) (N := 26) rfl in_X2 5 (by decide) q599 (fun _ h => h) (v := .ref (b + d + 5)) rfl dX2_acts_146 ?_
            refine lv_iload_n hx hb dX2_acts_149 rfl (lv_at hl 1 rfl) ?_
            refine s_rd hF hG (j := 5) (by decide) h dX2_acts_150 (fun v18 h => ?_)
            refine lv_isub hx hb dX2_acts_151 ?_
            refine lv_aload_n hx hb dX2_acts_152 rfl (lv_at hl 0 rfl) ?_
            refine g_get hF hG sG_0 (C := RX2) (T := TX2) (N := 26) rfl in_X2 18 (by decide) q620 (fun _ h => h) (v := .int (σ15.1 18)) rfl dX2_acts_153 ?_
            refine gb_icmp_lt hx hb dX2_acts_156 (tgt := 179) (by decide) h (fun h => ?_) (fun h => ?_)
            · have h := hE4 _ (Option.some.inj h).symm
              have h := Option.some.inj h
              subst h
              exact g_vret hQ hG ⟨rfl, rfl, rfl⟩ (Nat.le_of_ble_eq_true rfl) (Nat.le_of_ble_eq_true rfl) dX2_acts_179
            · exact J4 (Option.some.inj h).symm _ _ _ hG hl
      refine gb_if_eq hx hb dX2_acts_89 (tgt := 121) (by decide) h (fun h => ?_) (fun h => ?_)
      · exact J3 _ (Option.some.inj h).symm _ _ _ hG hl
      · refine lv_aload_n hx hb dX2_acts_92 rfl (lv_at hl 0 rfl) ?_
        refine lv_dup hx hb dX2_acts_93 rfl ?_
        refine g_get hF hG sG_0 (C := RX2) (T := TX2) (N := 26) rfl in_X2 14 (by decide) q614 (fun _ h => h) (v := .int (σ10.1 14)) rfl dX2_acts_94 ?_
        refine lv_iconst (v := 1) hx hb dX2_acts_97 (by decide) ?_
        refine lv_iload_n hx hb dX2_acts_98 rfl (lv_at hl 1 rfl) ?_
        refine lv_ishl hx hb dX2_acts_99 ?_
        refine lv_iconst (v := (-1)) hx hb dX2_acts_100 (by decide) ?_
        refine lv_ixor hx hb dX2_acts_101 ?_
        refine lv_iand hx hb dX2_acts_102 ?_
        refine s_putI hF hL0 hG 14 (by decide) ⟨rfl, rfl, rfl⟩ q614 h dX2_acts_103 (fun σ12 H locs h hG => ?_)
        refine lv_aload_n hx hb dX2_acts_106 rfl (lv_at hl 0 rfl) ?_
        refine g_get hF hG sG_0 (C := RX2) (T := TX2) (N := 26) rfl in_X2 9 (by decide) q606 (fun _ h => h) (v := .ref (b + d + 14)) rfl dX2_acts_107 ?_
        refine lv_iconst (v := 3) hx hb dX2_acts_110 (by decide) ?_
        refine lv_iload_n hx hb dX2_acts_111 rfl (lv_at hl 1 rfl) ?_
        refine lv_aload_n hx hb dX2_acts_112 rfl (lv_at hl 0 rfl) ?_
        refine g_get hF hG sG_0 (C := RX2) (T := TX2) (N := 26) rfl in_X2 1 (by decide) q591 (fun _ h => h) (v := .ref (b + d + 1)) rfl dX2_acts_113 ?_
        refine lv_iload_n hx hb dX2_acts_116 rfl (lv_at hl 1 rfl) ?_
        refine s_rd hF hG (j := 1) (by decide) h dX2_acts_117 (fun v13 h => ?_)
        refine k_X5_send q1689 hF hL0 hsu hsc hG hl (Nat.le_of_ble_eq_true rfl) (Nat.le_of_ble_eq_true rfl) h ⟨Nat.le_of_ble_eq_true rfl, Nat.le_of_ble_eq_true rfl⟩ (Nat.le_of_ble_eq_true rfl) dX2_acts_118 (fun σ14 H locs h hG => ?_)
        exact J3 _ (Option.some.inj h).symm _ _ _ hG hl
    refine gb_if_eq hx hb dX2_acts_54 (tgt := 81) (by decide) h (fun h => ?_) (fun h => ?_)
    · exact J2 _ (Option.some.inj h).symm _ _ _ hG hl
    · refine lv_aload_n hx hb dX2_acts_57 rfl (lv_at hl 0 rfl) ?_
      refine lv_dup hx hb dX2_acts_58 rfl ?_
      refine g_get hF hG sG_0 (C := RX2) (T := TX2) (N := 26) rfl in_X2 15 (by decide) q615 (fun _ h => h) (v := .int (σ6.1 15)) rfl dX2_acts_59 ?_
      refine lv_iconst (v := 1) hx hb dX2_acts_62 (by decide) ?_
      refine lv_iload_n hx hb dX2_acts_63 rfl (lv_at hl 1 rfl) ?_
      refine lv_ishl hx hb dX2_acts_64 ?_
      refine lv_iconst (v := (-1)) hx hb dX2_acts_65 (by decide) ?_
      refine lv_ixor hx hb dX2_acts_66 ?_
      refine lv_iand hx hb dX2_acts_67 ?_
      refine s_putI hF hL0 hG 15 (by decide) ⟨rfl, rfl, rfl⟩ q615 h dX2_acts_68 (fun σ8 H locs h hG => ?_)
      refine lv_aload_n hx hb dX2_acts_71 rfl (lv_at hl 0 rfl) ?_
      refine g_get hF hG sG_0 (C := RX2) (T := TX2) (N := 26) rfl in_X2 9 (by decide) q606 (fun _ h => h) (v := .ref (b + d + 14)) rfl dX2_acts_72 ?_
      refine lv_iconst (v := 2) hx hb dX2_acts_75 (by decide) ?_
      refine lv_iload_n hx hb dX2_acts_76 rfl (lv_at hl 1 rfl) ?_
      refine lv_iconst (v := (-1)) hx hb dX2_acts_77 (by decide) ?_
      refine k_X5_send q1689 hF hL0 hsu hsc hG hl (Nat.le_of_ble_eq_true rfl) (Nat.le_of_ble_eq_true rfl) h ⟨Nat.le_of_ble_eq_true rfl, Nat.le_of_ble_eq_true rfl⟩ (Nat.le_of_ble_eq_true rfl) dX2_acts_78 (fun σ9 H locs h hG => ?_)
      exact J2 _ (Option.some.inj h).symm _ _ _ hG hl
  refine gb_icmp_ne hx hb dX2_acts_7 (tgt := 46) (by decide) h (fun h => ?_) (fun h => ?_)
  · exact J1 _ (Option.some.inj h).symm _ _ _ hG hl
  · refine lv_aload_n hx hb dX2_acts_10 rfl (lv_at hl 0 rfl) ?_
    refine g_get hF hG sG_0 (C := RX2) (T := TX2) (N := 26) rfl in_X2 2 (by decide) q593 (fun _ h => h) (v := .ref (b + d + 2)) rfl dX2_acts_11 ?_
    refine lv_iload_n hx hb dX2_acts_14 rfl (lv_at hl 1 rfl) ?_
    refine s_rd hF hG (j := 2) (by decide) h dX2_acts_15 (fun v2 h => ?_)
    refine gb_if_ne hx hb dX2_acts_16 (tgt := 46) (by decide) h (fun h => ?_) (fun h => ?_)
    · exact J1 _ (Option.some.inj h).symm _ _ _ hG hl
    · refine lv_aload_n hx hb dX2_acts_19 rfl (lv_at hl 0 rfl) ?_
      refine g_get hF hG sG_0 (C := RX2) (T := TX2) (N := 26) rfl in_X2 1 (by decide) q591 (fun _ h => h) (v := .ref (b + d + 1)) rfl dX2_acts_20 ?_
      refine lv_iload_n hx hb dX2_acts_23 rfl (lv_at hl 1 rfl) ?_
      refine lv_iconst (v := 3) hx hb dX2_acts_24 (by decide) ?_
      refine s_wr hF hL0 hG (j := 1) (by decide) h dX2_acts_25 (fun σ3 H locs h hG => ?_)
      refine lv_aload_n hx hb dX2_acts_26 rfl (lv_at hl 0 rfl) ?_
      refine g_get hF hG sG_0 (C := RX2) (T := TX2) (N := 26) rfl in_X2 4 (by decide) q597 (fun _ h => h) (v := .ref (b + d + 4)) rfl dX2_acts_27 ?_
      refine lv_iload_n hx hb dX2_acts_30 rfl (lv_at hl 1 rfl) ?_
      refine lv_aload_n hx hb dX2_acts_31 rfl (lv_at hl 0 rfl) ?_
      refine g_get hF hG sG_0 (C := RX2) (T := TX2) (N := 26) rfl in_X2 19 (by decide) q622 (fun _ h => h) (v := .int (σ3.1 19)) rfl dX2_acts_32 ?_
      refine s_wr hF hL0 hG (j := 4) (by decide) h dX2_acts_35 (fun σ4 H locs h hG => ?_)
      refine lv_aload_n hx hb dX2_acts_36 rfl (lv_at hl 0 rfl) ?_
      refine g_get hF hG sG_0 (C := RX2) (T := TX2) (N := 26) rfl in_X2 9 (by decide) q606 (fun _ h => h) (v := .ref (b + d + 14)) rfl dX2_acts_37 ?_
      refine lv_iconst (v := 1) hx hb dX2_acts_40 (by decide) ?_
      refine lv_iload_n hx hb dX2_acts_41 rfl (lv_at hl 1 rfl) ?_
      refine lv_iconst (v := (-1)) hx hb dX2_acts_42 (by decide) ?_
      refine k_X5_send q1689 hF hL0 hsu hsc hG hl (Nat.le_of_ble_eq_true rfl) (Nat.le_of_ble_eq_true rfl) h ⟨Nat.le_of_ble_eq_true rfl, Nat.le_of_ble_eq_true rfl⟩ (Nat.le_of_ble_eq_true rfl) dX2_acts_43 (fun σ5 H locs h hG => ?_)
      exact J1 _ (Option.some.inj h).symm _ _ _ hG hl
theorem k_X2_acts {own : String} {index : Nat} (hq : (Cond.methodLink own index yX2_acts) ∈ lw_all) (hF : gXK p m c cc nL s args own g A R rm) (hL0 : L0 ≤ b) (hsu : suOK g.2.1 su b d G0) (hsc : suAt b d G0 sc.1 (.inl (g.2.1 0, sc.2.1, .inl sc.2.2))) (hG : gJK g L0 A s.heap (sG g.2.1 b d (su.1 0) sc σ G0) n H locs) (hl : lv_has ls nL lv) (h1 : 2 + 1 ≤ rm.frames) (h2 : 8 + (2 + 11) + 49 ≤ rm.locals) {p0 : Int32} {f : SS → Option γ} (h : ob1 (c_X2_acts sc σ p0) f = some o) (hc : cells ≤ rm.cells ∧ slots ≤ rm.slots) (hW : (rest.map fun v => v.category).sum ≤ 8) (hdg : decode cc pc = .ok (.invokevirtual index, 3))
    (kk : ∀ (σ1 : SS) (H1 : Heap) (locs1 : List Loc), f σ1 = some o → gJK g L0 A s.heap (sG g.2.1 b d (su.1 0) sc σ1 G0) n H1 locs1 → W p l e R s m args below meth c H1 locs1 cells slots Q (F0 m (pc + 3) ls rest)) : W p l e R s m args below meth c H locs cells slots Q (F0 m pc ls (.int p0 :: .ref b :: rest)) := by
  obtain ⟨r, hr, h⟩ := ob1_e h
  refine g_callV hF hG hl sG_0 (C := RX2) (T := TX2) (N := 26) rfl (w_X2_acts hL0 hsu hsc σ p0 hr) (cwV 1 hF.1.2.2.2.2 (lw_V hq q1687 qs32 q83 q1688) rfl rfl rfl (by decide +kernel) (g_room hF h1 h2)) rfl rfl hW hdg (hf0 hF.2.2.2.2 hc) (fun v G1 n1 H1 locs1 hR hG1 => ?_)
  obtain ⟨rfl, e2, e3⟩ := hR
  rw [e2, e3] at hG1
  exact kk r H1 locs1 h hG1
/-! X2_polls -/
def c_X2_polls_L1 (su : SU) (sc : SC) : Nat → Int32 → SS → Option (SS)
  | 0, _, _ => none
  | n + 1, y2, σ3 =>
    if (U_n su) ≤ y2 then (
    some σ3)
    else (
    ob1 (S_rd σ3 7 y2) fun (v4 : Int32) =>
    nm ((σ3.1 19) - v4) fun (x5 : Int32) =>
    ob1 (S_rd σ3 6 y2) fun (v6 : Int32) =>
    ob1 (
    if v6 = 2 then (
    if (su.2.1 6) ≤ x5 then (
    ob1 (c_X5_send sc σ3 5 y2 (-1)) fun (σ10 : SS) =>
    ob1 (S_wr σ10 7 y2 (σ10.1 19)) fun (σ11 : SS) =>
    some σ11)
    else (
    ob1 (S_rd σ3 6 y2) fun (v12 : Int32) =>
    if v12 = 3 then (
    if x5 < (5 * (su.2.1 6)) then (
    some σ3)
    else (
    ob1 (c_X5_send sc σ3 5 y2 (-1)) fun (σ13 : SS) =>
    ob1 (S_wr σ13 7 y2 (σ13.1 19)) fun (σ14 : SS) =>
    some σ14))
    else (
    some σ3)))
    else (
    ob1 (S_rd σ3 6 y2) fun (v7 : Int32) =>
    if v7 = 3 then (
    if x5 < (5 * (su.2.1 6)) then (
    some σ3)
    else (
    ob1 (c_X5_send sc σ3 5 y2 (-1)) fun (σ8 : SS) =>
    ob1 (S_wr σ8 7 y2 (σ8.1 19)) fun (σ9 : SS) =>
    some σ9))
    else (
    some σ3))) fun (σ15 : SS) =>
    nm (y2 + 1) fun (x16 : Int32) =>
    c_X2_polls_L1 su sc n x16 σ15)
def c_X2_polls (su : SU) (sc : SC) (σ : SS) : Option (SS) :=
ob1 (
c_X2_polls_L1 su sc 4096 0 σ) fun (σ17 : SS) =>
some σ17
set_option maxRecDepth 100000 in
theorem w_X2_polls {l : Launch} {g : gNum} {L0 b d sz : Nat} {su : SU} {sc : SC} {G0 : GH} (hL0 : L0 ≤ b) (hsu : suOK g.2.1 su b d G0) (hsc : suAt b d G0 sc.1 (.inl (g.2.1 0, sc.2.1, .inl sc.2.2))) (σ : SS) {out : SS} (h : c_X2_polls su sc σ = some out) : gMet l yX2_polls (ws_ yX2_polls cX2_polls 3 none) g.1 clX L0 (gK g) [.ref b] (sG g.2.1 b d (su.1 0) sc σ G0) sz 2 49 0 0 (fun v G n => v = none ∧ G = sG g.2.1 b d (su.1 0) sc out G0 ∧ n = sz) := by
  refine gMet.of (own := RX2) (gK_ok g) (by decide +kernel) (Nat.le_of_ble_eq_true rfl) rfl ?_
  intro p e R s m args below meth c A Q ls H hF hQ hin hG hl
  have hx := hF.1.1
  have hb := hF.1.2.1
  have hts := hF.1.2.2.2.2
  have hl : lv_has ls 3 [(0, .ref b)] := hl
  unfold c_X2_polls at h
  refine lv_iconst (v := 0) hx hb dX2_polls_0 (by decide) ?_
  refine lv_istore_n hx hb dX2_polls_1 rfl hl (Nat.le_of_ble_eq_true rfl) (lv' := [(1, .int 0), (0, .ref b)]) rfl (fun ls hl => ?_)
  obtain ⟨X1, h, hJ1⟩ := ob1_u h
  have J1 : ∀ (σ17 : SS), X1 = σ17 → ∀ (H : Heap) (locs : List Loc) (ls : Array Slot), gJK g L0 A s.heap (sG g.2.1 b d (su.1 0) sc σ17 G0) sz H locs → lv_has ls 3 [] → W p l e R s m args below meth c H locs 0 0 Q (F0 m 95 ls []) := by
    intro σ17 e0 H locs ls hG hl
    have h := hJ1 σ17 e0
    have h := Option.some.inj h
    subst h
    exact g_vret hQ hG ⟨rfl, rfl, rfl⟩ (Nat.le_of_ble_eq_true rfl) (Nat.le_of_ble_eq_true rfl) dX2_polls_95
  have LL1 : ∀ (n : Nat) (y2 : Int32) (σ3 : SS), c_X2_polls_L1 su sc n y2 σ3 = some X1 → ∀ (H : Heap) (locs : List Loc) (ls : Array Slot), gJK g L0 A s.heap (sG g.2.1 b d (su.1 0) sc σ3 G0) sz H locs → lv_has ls 3 [(0, .ref b), (1, .int y2)] → W p l e R s m args below meth c H locs 0 0 Q (F0 m 2 ls []) := by
    intro n
    induction n with
    | zero =>
      intro y2 σ3 h
      rw [c_X2_polls_L1] at h
      cases h
    | succ n ihL1 =>
      intro y2 σ3 h H locs ls hG hl
      rw [c_X2_polls_L1] at h
      refine lv_iload_n hx hb dX2_polls_2 rfl (lv_at hl 1 rfl) ?_
      refine lv_aload_n hx hb dX2_polls_3 rfl (lv_at hl 0 rfl) ?_
      refine g_get hF hG sG_0 (C := RX2) (T := TX2) (N := 26) rfl in_X2 0 (by decide) q589 (fun _ h => h) (v := .ref (su.1 0)) rfl dX2_polls_4 ?_
      refine ks_size q693 hF (su_of hsu) hG hl (Nat.le_of_ble_eq_true rfl) (Nat.le_of_ble_eq_true rfl) ⟨Nat.le_of_ble_eq_true rfl, Nat.le_of_ble_eq_true rfl⟩ (Nat.le_of_ble_eq_true rfl) dX2_polls_7 (fun H locs hG => ?_)
      refine gb_icmp_ge hx hb dX2_polls_10 (tgt := 95) (by decide) h (fun h => ?_) (fun h => ?_)
      · exact J1 _ (Option.some.inj h).symm _ _ _ hG (lv_sub hl [] rfl)
      · refine lv_aload_n hx hb dX2_polls_13 rfl (lv_at hl 0 rfl) ?_
        refine g_get hF hG sG_0 (C := RX2) (T := TX2) (N := 26) rfl in_X2 19 (by decide) q622 (fun _ h => h) (v := .int (σ3.1 19)) rfl dX2_polls_14 ?_
        refine lv_aload_n hx hb dX2_polls_17 rfl (lv_at hl 0 rfl) ?_
        refine g_get hF hG sG_0 (C := RX2) (T := TX2) (N := 26) rfl in_X2 7 (by decide) q602 (fun _ h => h) (v := .ref (b + d + 7)) rfl dX2_polls_18 ?_
        refine lv_iload_n hx hb dX2_polls_21 rfl (lv_at hl 1 rfl) ?_
        refine s_rd hF hG (j := 7) (by decide) h dX2_polls_22 (fun v4 h => ?_)
        refine lv_isub hx hb dX2_polls_23 ?_
        refine gb_nm h (fun x5 h => ?_)
        refine lv_istore_n hx hb dX2_polls_24 rfl hl (Nat.le_of_ble_eq_true rfl) (lv' := [(2, .int x5), (0, .ref b), (1, .int y2)]) rfl (fun ls hl => ?_)
        refine lv_aload_n hx hb dX2_polls_25 rfl (lv_at hl 1 rfl) ?_
        refine g_get hF hG sG_0 (C := RX2) (T := TX2) (N := 26) rfl in_X2 6 (by decide) q600 (fun _ h => h) (v := .ref (b + d + 6)) rfl dX2_polls_26 ?_
        refine lv_iload_n hx hb dX2_polls_29 rfl (lv_at hl 2 rfl) ?_
        refine s_rd hF hG (j := 6) (by decide) h dX2_polls_30 (fun v6 h => ?_)
        refine lv_iconst (v := 2) hx hb dX2_polls_31 (by decide) ?_
        obtain ⟨X2, h, hJ2⟩ := ob1_u h
        have J2 : ∀ (σ15 : SS), X2 = σ15 → ∀ (H : Heap) (locs : List Loc) (ls : Array Slot), gJK g L0 A s.heap (sG g.2.1 b d (su.1 0) sc σ15 G0) sz H locs → lv_has ls 3 [(0, .ref b), (1, .int y2)] → W p l e R s m args below meth c H locs 0 0 Q (F0 m 89 ls []) := by
          intro σ15 e0 H locs ls hG hl
          have h := hJ2 σ15 e0
          refine gb_iinc (k' := 1) hx hb dX2_polls_89 hl (k := 1) rfl (by decide) (Nat.le_of_ble_eq_true rfl) h (fun x16 ls h hl => ?_)
          have hl : lv_has ls 3 [(1, .int x16), (0, .ref b)] := hl
          refine lv_goto hx hb dX2_polls_92 (tgt := 2) (by decide) ?_
          exact ihL1 _ _ h _ _ _ hG (lv_sub hl [1, 0] rfl)
        refine gb_icmp_ne hx hb dX2_polls_32 (tgt := 46) (by decide) h (fun h => ?_) (fun h => ?_)
        · refine lv_aload_n hx hb dX2_polls_46 rfl (lv_at hl 1 rfl) ?_
          refine g_get hF hG sG_0 (C := RX2) (T := TX2) (N := 26) rfl in_X2 6 (by decide) q600 (fun _ h => h) (v := .ref (b + d + 6)) rfl dX2_polls_47 ?_
          refine lv_iload_n hx hb dX2_polls_50 rfl (lv_at hl 2 rfl) ?_
          refine s_rd hF hG (j := 6) (by decide) h dX2_polls_51 (fun v7 h => ?_)
          refine lv_iconst (v := 3) hx hb dX2_polls_52 (by decide) ?_
          refine gb_icmp_ne hx hb dX2_polls_53 (tgt := 89) (by decide) h (fun h => ?_) (fun h => ?_)
          · exact J2 _ (Option.some.inj h).symm _ _ _ hG (lv_sub hl [1, 2] rfl)
          · refine lv_iload_n hx hb dX2_polls_56 rfl (lv_at hl 0 rfl) ?_
            refine lv_iconst (v := 5) hx hb dX2_polls_57 (by decide) ?_
            refine lv_aload_n hx hb dX2_polls_58 rfl (lv_at hl 1 rfl) ?_
            refine g_get hF hG sG_0 (C := RX2) (T := TX2) (N := 26) rfl in_X2 0 (by decide) q589 (fun _ h => h) (v := .ref (su.1 0)) rfl dX2_polls_59 ?_
            refine g_getN hF hG hsu.1.rd (C := RX3) (T := TX3) (N := 10) rfl in_X3 6 (by decide) q508 (fun _ h => h) (v := .int (su.2.1 6)) rfl dX2_polls_62 ?_
            refine lv_imul hx hb dX2_polls_65 ?_
            refine gb_icmp_lt hx hb dX2_polls_66 (tgt := 89) (by decide) h (fun h => ?_) (fun h => ?_)
            · exact J2 _ (Option.some.inj h).symm _ _ _ hG (lv_sub hl [1, 2] rfl)
            · refine lv_aload_n hx hb dX2_polls_69 rfl (lv_at hl 1 rfl) ?_
              refine g_get hF hG sG_0 (C := RX2) (T := TX2) (N := 26) rfl in_X2 9 (by decide) q606 (fun _ h => h) (v := .ref (b + d + 14)) rfl dX2_polls_70 ?_
              refine lv_iconst (v := 5) hx hb dX2_polls_73 (by decide) ?_
              refine lv_iload_n hx hb dX2_polls_74 rfl (lv_at hl 2 rfl) ?_
              refine lv_iconst (v := (-1)) hx hb dX2_polls_75 (by decide) ?_
              refine k_X5_send q1689 hF hL0 hsu hsc hG hl (Nat.le_of_ble_eq_true rfl) (Nat.le_of_ble_eq_true rfl) h ⟨Nat.le_of_ble_eq_true rfl, Nat.le_of_ble_eq_true rfl⟩ (Nat.le_of_ble_eq_true rfl) dX2_polls_76 (fun σ8 H locs h hG => ?_)
              refine lv_aload_n hx hb dX2_polls_79 rfl (lv_at hl 1 rfl) ?_
              refine g_get hF hG sG_0 (C := RX2) (T := TX2) (N := 26) rfl in_X2 7 (by decide) q602 (fun _ h => h) (v := .ref (b + d + 7)) rfl dX2_polls_80 ?_
              refine lv_iload_n hx hb dX2_polls_83 rfl (lv_at hl 2 rfl) ?_
              refine lv_aload_n hx hb dX2_polls_84 rfl (lv_at hl 1 rfl) ?_
              refine g_get hF hG sG_0 (C := RX2) (T := TX2) (N := 26) rfl in_X2 19 (by decide) q622 (fun _ h => h) (v := .int (σ8.1 19)) rfl dX2_polls_85 ?_
              refine s_wr hF hL0 hG (j := 7) (by decide) h dX2_polls_88 (fun σ9 H locs h hG => ?_)
              exact J2 _ (Option.some.inj h).symm _ _ _ hG (lv_sub hl [1, 2] rfl)
        · refine lv_iload_n hx hb dX2_polls_35 rfl (lv_at hl 0 rfl) ?_
          refine lv_aload_n hx hb dX2_polls_36 rfl (lv_at hl 1 rfl) ?_
          refine g_get hF hG sG_0 (C := RX2) (T := TX2) (N := 26) rfl in_X2 0 (by decide) q589 (fun _ h => h) (v := .ref (su.1 0)) rfl dX2_polls_37 ?_
          refine g_getN hF hG hsu.1.rd (C := RX3) (T := TX3) (N := 10) rfl in_X3 6 (by decide) q508 (fun _ h => h) (v := .int (su.2.1 6)) rfl dX2_polls_40 ?_
          refine gb_icmp_ge hx hb dX2_polls_43 (tgt := 69) (by decide) h (fun h => ?_) (fun h => ?_)
          · refine lv_aload_n hx hb dX2_polls_69 rfl (lv_at hl 1 rfl) ?_
            refine g_get hF hG sG_0 (C := RX2) (T := TX2) (N := 26) rfl in_X2 9 (by decide) q606 (fun _ h => h) (v := .ref (b + d + 14)) rfl dX2_polls_70 ?_
            refine lv_iconst (v := 5) hx hb dX2_polls_73 (by decide) ?_
            refine lv_iload_n hx hb dX2_polls_74 rfl (lv_at hl 2 rfl) ?_
            refine lv_iconst (v := (-1)) hx hb dX2_polls_75 (by decide) ?_
            refine k_X5_send q1689 hF hL0 hsu hsc hG hl (Nat.le_of_ble_eq_true rfl) (Nat.le_of_ble_eq_true rfl) h ⟨Nat.le_of_ble_eq_true rfl, Nat.le_of_ble_eq_true rfl⟩ (Nat.le_of_ble_eq_true rfl) dX2_polls_76 (fun σ10 H locs h hG => ?_)
            refine lv_aload_n hx hb dX2_polls_79 rfl (lv_at hl 1 rfl) ?_
            refine g_get hF hG sG_0 (C := RX2) (T := TX2) (N := 26) rfl in_X2 7 (by decide) q602 (fun _ h => h) (v := .ref (b + d + 7)) rfl dX2_polls_80 ?_
            refine lv_iload_n hx hb dX2_polls_83 rfl (lv_at hl 2 rfl) ?_
            refine lv_aload_n hx hb dX2_polls_84 rfl (lv_at hl 1 rfl) ?_
            refine g_get hF hG sG_0 (C := RX2) (T := TX2) (N := 26) rfl in_X2 19 (by decide) q622 (fun _ h => h) (v := .int (σ10.1 19)) rfl dX2_polls_85 ?_
            refine s_wr hF hL0 hG (j := 7) (by decide) h dX2_polls_88 (fun σ11 H locs h hG => ?_)
            exact J2 _ (Option.some.inj h).symm _ _ _ hG (lv_sub hl [1, 2] rfl)
          · refine lv_aload_n hx hb dX2_polls_46 rfl (lv_at hl 1 rfl) ?_
            refine g_get hF hG sG_0 (C := RX2) (T := TX2) (N := 26) rfl in_X2 6 (by decide) q600 (fun _ h => h) (v := .ref (b + d + 6)) rfl dX2_polls_47 ?_
            refine lv_iload_n hx hb dX2_polls_50 rfl (lv_at hl 2 rfl) ?_
            refine s_rd hF hG (j := 6) (by decide) h dX2_polls_51 (fun v12 h => ?_)
            refine lv_iconst (v := 3) hx hb dX2_polls_52 (by decide) ?_
            refine gb_icmp_ne hx hb dX2_polls_53 (tgt := 89) (by decide) h (fun h => ?_) (fun h => ?_)
            · exact J2 _ (Option.some.inj h).symm _ _ _ hG (lv_sub hl [1, 2] rfl)
            · refine lv_iload_n hx hb dX2_polls_56 rfl (lv_at hl 0 rfl) ?_
              refine lv_iconst (v := 5) hx hb dX2_polls_57 (by decide) ?_
              refine lv_aload_n hx hb dX2_polls_58 rfl (lv_at hl 1 rfl) ?_
              refine g_get hF hG sG_0 (C := RX2) (T := TX2) (N := 26) rfl in_X2 0 (by decide) q589 (fun _ h => h) (v := .ref (su.1 0)) rfl dX2_polls_59 ?_
              refine g_getN hF hG hsu.1.rd (C := RX3) (T := TX3) (N := 10) rfl in_X3 6 (by decide) q508 (fun _ h => h) (v := .int (su.2.1 6)) rfl dX2_polls_62 ?_
              refine lv_imul hx hb dX2_polls_65 ?_
              refine gb_icmp_lt hx hb dX2_polls_66 (tgt := 89) (by decide) h (fun h => ?_) (fun h => ?_)
              · exact J2 _ (Option.some.inj h).symm _ _ _ hG (lv_sub hl [1, 2] rfl)
              · refine lv_aload_n hx hb dX2_polls_69 rfl (lv_at hl 1 rfl) ?_
                refine g_get hF hG sG_0 (C := RX2) (T := TX2) (N := 26) rfl in_X2 9 (by decide) q606 (fun _ h => h) (v := .ref (b + d + 14)) rfl dX2_polls_70 ?_
                refine lv_iconst (v := 5) hx hb dX2_polls_73 (by decide) ?_
                refine lv_iload_n hx hb dX2_polls_74 rfl (lv_at hl 2 rfl) ?_
                refine lv_iconst (v := (-1)) hx hb dX2_polls_75 (by decide) ?_
                refine k_X5_send q1689 hF hL0 hsu hsc hG hl (Nat.le_of_ble_eq_true rfl) (Nat.le_of_ble_eq_true rfl) h ⟨Nat.le_of_ble_eq_true rfl, Nat.le_of_ble_eq_true rfl⟩ (Nat.le_of_ble_eq_true rfl) dX2_polls_76 (fun σ13 H locs h hG => ?_)
                refine lv_aload_n hx hb dX2_polls_79 rfl (lv_at hl 1 rfl) ?_
                refine g_get hF hG sG_0 (C := RX2) (T := TX2) (N := 26) rfl in_X2 7 (by decide) q602 (fun _ h => h) (v := .ref (b + d + 7)) rfl dX2_polls_80 ?_
                refine lv_iload_n hx hb dX2_polls_83 rfl (lv_at hl 2 rfl) ?_
                refine lv_aload_n hx hb dX2_polls_84 rfl (lv_at hl 1 rfl) ?_
                refine g_get hF hG sG_0 (C := RX2) (T := TX2) (N := 26) rfl in_X2 19 (by decide) q622 (fun _ h => h) (v := .int (σ13.1 19)) rfl dX2_polls_85 ?_
                refine s_wr hF hL0 hG (j := 7) (by decide) h dX2_polls_88 (fun σ14 H locs h hG => ?_)
                exact J2 _ (Option.some.inj h).symm _ _ _ hG (lv_sub hl [1, 2] rfl)
  exact LL1 _ _ _ h _ _ _ hG (lv_sub hl [1, 0] rfl)
theorem k_X2_polls {own : String} {index : Nat} (hq : (Cond.methodLink own index yX2_polls) ∈ lw_all) (hF : gXK p m c cc nL s args own g A R rm) (hL0 : L0 ≤ b) (hsu : suOK g.2.1 su b d G0) (hsc : suAt b d G0 sc.1 (.inl (g.2.1 0, sc.2.1, .inl sc.2.2))) (hG : gJK g L0 A s.heap (sG g.2.1 b d (su.1 0) sc σ G0) n H locs) (hl : lv_has ls nL lv) (h1 : 2 + 1 ≤ rm.frames) (h2 : 8 + (3 + 11) + 49 ≤ rm.locals) {f : SS → Option γ} (h : ob1 (c_X2_polls su sc σ) f = some o) (hc : cells ≤ rm.cells ∧ slots ≤ rm.slots) (hW : (rest.map fun v => v.category).sum ≤ 8) (hdg : decode cc pc = .ok (.invokevirtual index, 3))
    (kk : ∀ (σ1 : SS) (H1 : Heap) (locs1 : List Loc), f σ1 = some o → gJK g L0 A s.heap (sG g.2.1 b d (su.1 0) sc σ1 G0) n H1 locs1 → W p l e R s m args below meth c H1 locs1 cells slots Q (F0 m (pc + 3) ls rest)) : W p l e R s m args below meth c H locs cells slots Q (F0 m pc ls (.ref b :: rest)) := by
  obtain ⟨r, hr, h⟩ := ob1_e h
  refine g_callV hF hG hl sG_0 (C := RX2) (T := TX2) (N := 26) rfl (w_X2_polls hL0 hsu hsc σ hr) (cwV 0 hF.1.2.2.2.2 (lw_V hq q1696 qs33 q83 q1697) rfl rfl rfl (by decide +kernel) (g_room hF h1 h2)) rfl rfl hW hdg (hf0 hF.2.2.2.2 hc) (fun v G1 n1 H1 locs1 hR hG1 => ?_)
  obtain ⟨rfl, e2, e3⟩ := hR
  rw [e2, e3] at hG1
  exact kk r H1 locs1 h hG1
/-! X2_isAhead -/
def c_X2_isAhead (σ : SS) (p0 : Int32) (p1 : Int32) : Option (Int32) :=
ob1 (S_rd σ 8 p0) fun (v1 : Int32) =>
ob1 (S_rd σ 8 p1) fun (v2 : Int32) =>
if v1 = v2 then (
ob1 (j_X4_placeOf 0 p0 0 (σ.1 30) (σ.2 10)) fun (v3 : Int32) =>
ob1 (j_X4_placeOf 0 p1 0 (σ.1 30) (σ.2 10)) fun (v4 : Int32) =>
if v3 = v4 then (
if p1 ≤ p0 then (
some 0)
else (
some 1))
else (
if v4 = (-1) then (
some 1)
else (
if v3 = (-1) then (
some 0)
else (
if v4 ≤ v3 then (
some 0)
else (
some 1)))))
else (
ob1 (S_rd σ 8 p0) fun (v5 : Int32) =>
ob1 (S_rd σ 8 p1) fun (v6 : Int32) =>
if v5 ≤ v6 then (
some 0)
else (
some 1))
set_option maxRecDepth 100000 in
theorem w_X2_isAhead {l : Launch} {g : gNum} {L0 b d sz : Nat} {su : SU} {sc : SC} {G0 : GH} (hL0 : L0 ≤ b) (hsu : suOK g.2.1 su b d G0) (hsc : suAt b d G0 sc.1 (.inl (g.2.1 0, sc.2.1, .inl sc.2.2))) (σ : SS) (p0 : Int32) (p1 : Int32) {out : Int32} (h : c_X2_isAhead σ p0 p1 = some out) : gMet l yX2_isAhead (ws_ yX2_isAhead cX2_isAhead 5 (some .boolean)) g.1 clX L0 (gK g) [.ref b, .int p0, .int p1] (sG g.2.1 b d (su.1 0) sc σ G0) sz 1 22 0 0 (fun v G n => v = some (.int out) ∧ G = sG g.2.1 b d (su.1 0) sc σ G0 ∧ n = sz) := by
  refine gMet.of (own := RX2) (gK_ok g) (by decide +kernel) (Nat.le_of_ble_eq_true rfl) rfl ?_
  intro p e R s m args below meth c A Q ls H hF hQ hin hG hl
  have hx := hF.1.1
  have hb := hF.1.2.1
  have hts := hF.1.2.2.2.2
  have hl : lv_has ls 5 [(0, .ref b), (1, .int p0), (2, .int p1)] := hl
  unfold c_X2_isAhead at h
  refine lv_aload_n hx hb dX2_isAhead_0 rfl (lv_at hl 0 rfl) ?_
  refine g_get hF hG sG_0 (C := RX2) (T := TX2) (N := 26) rfl in_X2 8 (by decide) q604 (fun _ h => h) (v := .ref (b + d + 8)) rfl dX2_isAhead_1 ?_
  refine lv_iload_n hx hb dX2_isAhead_4 rfl (lv_at hl 1 rfl) ?_
  refine s_rd hF hG (j := 8) (by decide) h dX2_isAhead_5 (fun v1 h => ?_)
  refine lv_aload_n hx hb dX2_isAhead_6 rfl (lv_at hl 0 rfl) ?_
  refine g_get hF hG sG_0 (C := RX2) (T := TX2) (N := 26) rfl in_X2 8 (by decide) q604 (fun _ h => h) (v := .ref (b + d + 8)) rfl dX2_isAhead_7 ?_
  refine lv_iload_n hx hb dX2_isAhead_10 rfl (lv_at hl 2 rfl) ?_
  refine s_rd hF hG (j := 8) (by decide) h dX2_isAhead_11 (fun v2 h => ?_)
  refine gb_icmp_eq hx hb dX2_isAhead_12 (tgt := 36) (by decide) h (fun h => ?_) (fun h => ?_)
  · refine lv_aload_n hx hb dX2_isAhead_36 rfl (lv_at hl 0 rfl) ?_
    refine g_get hF hG sG_0 (C := RX2) (T := TX2) (N := 26) rfl in_X2 10 (by decide) q608 (fun _ h => h) (v := .ref (b + d + 9)) rfl dX2_isAhead_37 ?_
    refine lv_iload_n hx hb dX2_isAhead_40 rfl (lv_at hl 1 rfl) ?_
    refine ks_place9 q828 hF hG hl (Nat.le_of_ble_eq_true rfl) (Nat.le_of_ble_eq_true rfl) h ⟨Nat.le_of_ble_eq_true rfl, Nat.le_of_ble_eq_true rfl⟩ (Nat.le_of_ble_eq_true rfl) dX2_isAhead_41 (fun v3 H locs h hG => ?_)
    refine lv_istore_n hx hb dX2_isAhead_44 rfl hl (Nat.le_of_ble_eq_true rfl) (lv' := [(3, .int v3), (0, .ref b), (1, .int p0), (2, .int p1)]) rfl (fun ls hl => ?_)
    refine lv_aload_n hx hb dX2_isAhead_45 rfl (lv_at hl 1 rfl) ?_
    refine g_get hF hG sG_0 (C := RX2) (T := TX2) (N := 26) rfl in_X2 10 (by decide) q608 (fun _ h => h) (v := .ref (b + d + 9)) rfl dX2_isAhead_46 ?_
    refine lv_iload_n hx hb dX2_isAhead_49 rfl (lv_at hl 3 rfl) ?_
    refine ks_place9 q828 hF hG hl (Nat.le_of_ble_eq_true rfl) (Nat.le_of_ble_eq_true rfl) h ⟨Nat.le_of_ble_eq_true rfl, Nat.le_of_ble_eq_true rfl⟩ (Nat.le_of_ble_eq_true rfl) dX2_isAhead_50 (fun v4 H locs h hG => ?_)
    refine lv_istore hx hb dX2_isAhead_53 hl (Nat.le_of_ble_eq_true rfl) (lv' := [(4, .int v4), (3, .int v3), (0, .ref b), (1, .int p0), (2, .int p1)]) rfl (fun ls hl => ?_)
    refine lv_iload_n hx hb dX2_isAhead_55 rfl (lv_at hl 1 rfl) ?_
    refine lv_iload hx hb dX2_isAhead_56 (lv_at hl 0 rfl) ?_
    refine gb_icmp_eq hx hb dX2_isAhead_58 (tgt := 84) (by decide) h (fun h => ?_) (fun h => ?_)
    · refine lv_iload_n hx hb dX2_isAhead_84 rfl (lv_at hl 3 rfl) ?_
      refine lv_iload_n hx hb dX2_isAhead_85 rfl (lv_at hl 4 rfl) ?_
      refine gb_icmp_ge hx hb dX2_isAhead_86 (tgt := 93) (by decide) h (fun h => ?_) (fun h => ?_)
      · refine lv_iconst (v := 0) hx hb dX2_isAhead_93 (by decide) ?_
        have h := Option.some.inj h
        subst h
        exact g_zret hQ hG (by decide) ⟨rfl, rfl, rfl⟩ (Nat.le_of_ble_eq_true rfl) (Nat.le_of_ble_eq_true rfl) dX2_isAhead_94
      · refine lv_iconst (v := 1) hx hb dX2_isAhead_89 (by decide) ?_
        refine lv_goto hx hb dX2_isAhead_90 (tgt := 94) (by decide) ?_
        have h := Option.some.inj h
        subst h
        exact g_zret hQ hG (by decide) ⟨rfl, rfl, rfl⟩ (Nat.le_of_ble_eq_true rfl) (Nat.le_of_ble_eq_true rfl) dX2_isAhead_94
    · refine lv_iload hx hb dX2_isAhead_61 (lv_at hl 0 rfl) ?_
      refine lv_iconst (v := (-1)) hx hb dX2_isAhead_63 (by decide) ?_
      refine gb_icmp_eq hx hb dX2_isAhead_64 (tgt := 78) (by decide) h (fun h => ?_) (fun h => ?_)
      · refine lv_iconst (v := 1) hx hb dX2_isAhead_78 (by decide) ?_
        refine lv_goto hx hb dX2_isAhead_79 (tgt := 83) (by decide) ?_
        have h := Option.some.inj h
        subst h
        exact g_zret hQ hG (by decide) ⟨rfl, rfl, rfl⟩ (Nat.le_of_ble_eq_true rfl) (Nat.le_of_ble_eq_true rfl) dX2_isAhead_83
      · refine lv_iload_n hx hb dX2_isAhead_67 rfl (lv_at hl 1 rfl) ?_
        refine lv_iconst (v := (-1)) hx hb dX2_isAhead_68 (by decide) ?_
        refine gb_icmp_eq hx hb dX2_isAhead_69 (tgt := 82) (by decide) h (fun h => ?_) (fun h => ?_)
        · refine lv_iconst (v := 0) hx hb dX2_isAhead_82 (by decide) ?_
          have h := Option.some.inj h
          subst h
          exact g_zret hQ hG (by decide) ⟨rfl, rfl, rfl⟩ (Nat.le_of_ble_eq_true rfl) (Nat.le_of_ble_eq_true rfl) dX2_isAhead_83
        · refine lv_iload_n hx hb dX2_isAhead_72 rfl (lv_at hl 1 rfl) ?_
          refine lv_iload hx hb dX2_isAhead_73 (lv_at hl 0 rfl) ?_
          refine gb_icmp_ge hx hb dX2_isAhead_75 (tgt := 82) (by decide) h (fun h => ?_) (fun h => ?_)
          · refine lv_iconst (v := 0) hx hb dX2_isAhead_82 (by decide) ?_
            have h := Option.some.inj h
            subst h
            exact g_zret hQ hG (by decide) ⟨rfl, rfl, rfl⟩ (Nat.le_of_ble_eq_true rfl) (Nat.le_of_ble_eq_true rfl) dX2_isAhead_83
          · refine lv_iconst (v := 1) hx hb dX2_isAhead_78 (by decide) ?_
            refine lv_goto hx hb dX2_isAhead_79 (tgt := 83) (by decide) ?_
            have h := Option.some.inj h
            subst h
            exact g_zret hQ hG (by decide) ⟨rfl, rfl, rfl⟩ (Nat.le_of_ble_eq_true rfl) (Nat.le_of_ble_eq_true rfl) dX2_isAhead_83
  · refine lv_aload_n hx hb dX2_isAhead_15 rfl (lv_at hl 0 rfl) ?_
    refine g_get hF hG sG_0 (C := RX2) (T := TX2) (N := 26) rfl in_X2 8 (by decide) q604 (fun _ h => h) (v := .ref (b + d + 8)) rfl dX2_isAhead_16 ?_
    refine lv_iload_n hx hb dX2_isAhead_19 rfl (lv_at hl 1 rfl) ?_
    refine s_rd hF hG (j := 8) (by decide) h dX2_isAhead_20 (fun v5 h => ?_)
    refine lv_aload_n hx hb dX2_isAhead_21 rfl (lv_at hl 0 rfl) ?_
    refine g_get hF hG sG_0 (C := RX2) (T := TX2) (N := 26) rfl in_X2 8 (by decide) q604 (fun _ h => h) (v := .ref (b + d + 8)) rfl dX2_isAhead_22 ?_
    refine lv_iload_n hx hb dX2_isAhead_25 rfl (lv_at hl 2 rfl) ?_
    refine s_rd hF hG (j := 8) (by decide) h dX2_isAhead_26 (fun v6 h => ?_)
    refine gb_icmp_le hx hb dX2_isAhead_27 (tgt := 34) (by decide) h (fun h => ?_) (fun h => ?_)
    · refine lv_iconst (v := 0) hx hb dX2_isAhead_34 (by decide) ?_
      have h := Option.some.inj h
      subst h
      exact g_zret hQ hG (by decide) ⟨rfl, rfl, rfl⟩ (Nat.le_of_ble_eq_true rfl) (Nat.le_of_ble_eq_true rfl) dX2_isAhead_35
    · refine lv_iconst (v := 1) hx hb dX2_isAhead_30 (by decide) ?_
      refine lv_goto hx hb dX2_isAhead_31 (tgt := 35) (by decide) ?_
      have h := Option.some.inj h
      subst h
      exact g_zret hQ hG (by decide) ⟨rfl, rfl, rfl⟩ (Nat.le_of_ble_eq_true rfl) (Nat.le_of_ble_eq_true rfl) dX2_isAhead_35
theorem k_X2_isAhead {own : String} {index : Nat} (hq : (Cond.methodLink own index yX2_isAhead) ∈ lw_all) (hF : gXK p m c cc nL s args own g A R rm) (hL0 : L0 ≤ b) (hsu : suOK g.2.1 su b d G0) (hsc : suAt b d G0 sc.1 (.inl (g.2.1 0, sc.2.1, .inl sc.2.2))) (hG : gJK g L0 A s.heap (sG g.2.1 b d (su.1 0) sc σ G0) n H locs) (hl : lv_has ls nL lv) (h1 : 1 + 1 ≤ rm.frames) (h2 : 8 + (5 + 11) + 22 ≤ rm.locals) {p0 : Int32} {p1 : Int32} {f : Int32 → Option γ} (h : ob1 (c_X2_isAhead σ p0 p1) f = some o) (hc : cells ≤ rm.cells ∧ slots ≤ rm.slots) (hW : (rest.map fun v => v.category).sum ≤ 8) (hdg : decode cc pc = .ok (.invokevirtual index, 3))
    (kk : ∀ (r : Int32) (H1 : Heap) (locs1 : List Loc), f r = some o → gJK g L0 A s.heap (sG g.2.1 b d (su.1 0) sc σ G0) n H1 locs1 → W p l e R s m args below meth c H1 locs1 cells slots Q (F0 m (pc + 3) ls (.int r :: rest))) : W p l e R s m args below meth c H locs cells slots Q (F0 m pc ls (.int p1 :: .int p0 :: .ref b :: rest)) := by
  obtain ⟨r, hr, h⟩ := ob1_e h
  refine g_callV hF hG hl sG_0 (C := RX2) (T := TX2) (N := 26) rfl (w_X2_isAhead hL0 hsu hsc σ p0 p1 hr) (cwV 2 hF.1.2.2.2.2 (lw_V hq q826 qs2 q83 q827) rfl rfl rfl (by decide +kernel) (g_room hF h1 h2)) rfl rfl hW hdg (hf0 hF.2.2.2.2 hc) (fun v G1 n1 H1 locs1 hR hG1 => ?_)
  obtain ⟨rfl, e2, e3⟩ := hR
  rw [e2, e3] at hG1
  exact kk r H1 locs1 h hG1
/-! X2_first -/
def c_X2_first_L1 (su : SU) (σ : SS) (p0 : Int32) : Nat → Int32 → Int32 → Option (Int32)
  | 0, _, _ => none
  | n + 1, y2, y3 =>
    if (U_n su) ≤ y3 then (
    some y2)
    else (
    ob1 (j_X1_has p0 y3) fun (v4 : Int32) =>
    ob1 (
    if v4 = 0 then (
    some y2)
    else (
    if y2 = (-1) then (
    some y3)
    else (
    ob1 (c_X2_isAhead σ y3 y2) fun (v5 : Int32) =>
    if v5 = 0 then (
    some y2)
    else (
    some y3)))) fun (z6 : Int32) =>
    nm (y3 + 1) fun (x7 : Int32) =>
    c_X2_first_L1 su σ p0 n z6 x7)
def c_X2_first (su : SU) (σ : SS) (p0 : Int32) : Option (Int32) :=
ob1 (
c_X2_first_L1 su σ p0 4096 (-1) 0) fun (z8 : Int32) =>
some z8
set_option maxRecDepth 100000 in
theorem w_X2_first {l : Launch} {g : gNum} {L0 b d sz : Nat} {su : SU} {sc : SC} {G0 : GH} (hL0 : L0 ≤ b) (hsu : suOK g.2.1 su b d G0) (hsc : suAt b d G0 sc.1 (.inl (g.2.1 0, sc.2.1, .inl sc.2.2))) (σ : SS) (p0 : Int32) {out : Int32} (h : c_X2_first su σ p0 = some out) : gMet l yX2_first (ws_ yX2_first cX2_first 4 (some .int)) g.1 clX L0 (gK g) [.ref b, .int p0] (sG g.2.1 b d (su.1 0) sc σ G0) sz 2 46 0 0 (fun v G n => v = some (.int out) ∧ G = sG g.2.1 b d (su.1 0) sc σ G0 ∧ n = sz) := by
  refine gMet.of (own := RX2) (gK_ok g) (by decide +kernel) (Nat.le_of_ble_eq_true rfl) rfl ?_
  intro p e R s m args below meth c A Q ls H hF hQ hin hG hl
  have hx := hF.1.1
  have hb := hF.1.2.1
  have hts := hF.1.2.2.2.2
  have hl : lv_has ls 4 [(0, .ref b), (1, .int p0)] := hl
  unfold c_X2_first at h
  refine lv_iconst (v := (-1)) hx hb dX2_first_0 (by decide) ?_
  refine lv_istore_n hx hb dX2_first_1 rfl hl (Nat.le_of_ble_eq_true rfl) (lv' := [(2, .int (-1)), (0, .ref b), (1, .int p0)]) rfl (fun ls hl => ?_)
  refine lv_iconst (v := 0) hx hb dX2_first_2 (by decide) ?_
  refine lv_istore_n hx hb dX2_first_3 rfl hl (Nat.le_of_ble_eq_true rfl) (lv' := [(3, .int 0), (2, .int (-1)), (0, .ref b), (1, .int p0)]) rfl (fun ls hl => ?_)
  obtain ⟨X1, h, hJ1⟩ := ob1_u h
  have J1 : ∀ (z8 : Int32), X1 = z8 → ∀ (H : Heap) (locs : List Loc) (ls : Array Slot), gJK g L0 A s.heap (sG g.2.1 b d (su.1 0) sc σ G0) sz H locs → lv_has ls 4 [(2, .int z8)] → W p l e R s m args below meth c H locs 0 0 Q (F0 m 45 ls []) := by
    intro z8 e0 H locs ls hG hl
    have h := hJ1 z8 e0
    refine lv_iload_n hx hb dX2_first_45 rfl (lv_at hl 0 rfl) ?_
    have h := Option.some.inj h
    subst h
    exact g_iret hQ hG ⟨rfl, rfl, rfl⟩ (Nat.le_of_ble_eq_true rfl) (Nat.le_of_ble_eq_true rfl) dX2_first_46
  have LL1 : ∀ (n : Nat) (y2 : Int32) (y3 : Int32), c_X2_first_L1 su σ p0 n y2 y3 = some X1 → ∀ (H : Heap) (locs : List Loc) (ls : Array Slot), gJK g L0 A s.heap (sG g.2.1 b d (su.1 0) sc σ G0) sz H locs → lv_has ls 4 [(0, .ref b), (1, .int p0), (2, .int y2), (3, .int y3)] → W p l e R s m args below meth c H locs 0 0 Q (F0 m 4 ls []) := by
    intro n
    induction n with
    | zero =>
      intro y2 y3 h
      rw [c_X2_first_L1] at h
      cases h
    | succ n ihL1 =>
      intro y2 y3 h H locs ls hG hl
      rw [c_X2_first_L1] at h
      refine lv_iload_n hx hb dX2_first_4 rfl (lv_at hl 3 rfl) ?_
      refine lv_aload_n hx hb dX2_first_5 rfl (lv_at hl 0 rfl) ?_
      refine g_get hF hG sG_0 (C := RX2) (T := TX2) (N := 26) rfl in_X2 0 (by decide) q589 (fun _ h => h) (v := .ref (su.1 0)) rfl dX2_first_6 ?_
      refine ks_size q693 hF (su_of hsu) hG hl (Nat.le_of_ble_eq_true rfl) (Nat.le_of_ble_eq_true rfl) ⟨Nat.le_of_ble_eq_true rfl, Nat.le_of_ble_eq_true rfl⟩ (Nat.le_of_ble_eq_true rfl) dX2_first_9 (fun H locs hG => ?_)
      refine gb_icmp_ge hx hb dX2_first_12 (tgt := 45) (by decide) h (fun h => ?_) (fun h => ?_)
      · exact J1 _ (Option.some.inj h).symm _ _ _ hG (lv_sub hl [2] rfl)
      · refine lv_iload_n hx hb dX2_first_15 rfl (lv_at hl 1 rfl) ?_
        refine lv_iload_n hx hb dX2_first_16 rfl (lv_at hl 3 rfl) ?_
        refine ks_hasN q707 hF hG hl (Nat.le_of_ble_eq_true rfl) (Nat.le_of_ble_eq_true rfl) h ⟨Nat.le_of_ble_eq_true rfl, Nat.le_of_ble_eq_true rfl⟩ (Nat.le_of_ble_eq_true rfl) dX2_first_17 (fun v4 H locs h hG => ?_)
        obtain ⟨X2, h, hJ2⟩ := ob1_u h
        have J2 : ∀ (z6 : Int32), X2 = z6 → ∀ (H : Heap) (locs : List Loc) (ls : Array Slot), gJK g L0 A s.heap (sG g.2.1 b d (su.1 0) sc σ G0) sz H locs → lv_has ls 4 [(0, .ref b), (1, .int p0), (2, .int z6), (3, .int y3)] → W p l e R s m args below meth c H locs 0 0 Q (F0 m 39 ls []) := by
          intro z6 e0 H locs ls hG hl
          have h := hJ2 z6 e0
          refine gb_iinc (k' := 1) hx hb dX2_first_39 hl (k := 3) rfl (by decide) (Nat.le_of_ble_eq_true rfl) h (fun x7 ls h hl => ?_)
          have hl : lv_has ls 4 [(3, .int x7), (0, .ref b), (1, .int p0), (2, .int z6)] := hl
          refine lv_goto hx hb dX2_first_42 (tgt := 4) (by decide) ?_
          exact ihL1 _ _ h _ _ _ hG (lv_sub hl [1, 2, 3, 0] rfl)
        refine gb_if_eq hx hb dX2_first_20 (tgt := 39) (by decide) h (fun h => ?_) (fun h => ?_)
        · exact J2 _ (Option.some.inj h).symm _ _ _ hG hl
        · refine lv_iload_n hx hb dX2_first_23 rfl (lv_at hl 2 rfl) ?_
          refine lv_iconst (v := (-1)) hx hb dX2_first_24 (by decide) ?_
          refine gb_icmp_eq hx hb dX2_first_25 (tgt := 37) (by decide) h (fun h => ?_) (fun h => ?_)
          · refine lv_iload_n hx hb dX2_first_37 rfl (lv_at hl 3 rfl) ?_
            refine lv_istore_n hx hb dX2_first_38 rfl hl (Nat.le_of_ble_eq_true rfl) (lv' := [(2, .int y3), (0, .ref b), (1, .int p0), (3, .int y3)]) rfl (fun ls hl => ?_)
            exact J2 _ (Option.some.inj h).symm _ _ _ hG (lv_sub hl [1, 2, 0, 3] rfl)
          · refine lv_aload_n hx hb dX2_first_28 rfl (lv_at hl 0 rfl) ?_
            refine lv_iload_n hx hb dX2_first_29 rfl (lv_at hl 3 rfl) ?_
            refine lv_iload_n hx hb dX2_first_30 rfl (lv_at hl 2 rfl) ?_
            refine k_X2_isAhead q824 hF hL0 hsu hsc hG hl (Nat.le_of_ble_eq_true rfl) (Nat.le_of_ble_eq_true rfl) h ⟨Nat.le_of_ble_eq_true rfl, Nat.le_of_ble_eq_true rfl⟩ (Nat.le_of_ble_eq_true rfl) dX2_first_31 (fun v5 H locs h hG => ?_)
            refine gb_if_eq hx hb dX2_first_34 (tgt := 39) (by decide) h (fun h => ?_) (fun h => ?_)
            · exact J2 _ (Option.some.inj h).symm _ _ _ hG hl
            · refine lv_iload_n hx hb dX2_first_37 rfl (lv_at hl 3 rfl) ?_
              refine lv_istore_n hx hb dX2_first_38 rfl hl (Nat.le_of_ble_eq_true rfl) (lv' := [(2, .int y3), (0, .ref b), (1, .int p0), (3, .int y3)]) rfl (fun ls hl => ?_)
              exact J2 _ (Option.some.inj h).symm _ _ _ hG (lv_sub hl [1, 2, 0, 3] rfl)
  exact LL1 _ _ _ h _ _ _ hG (lv_sub hl [2, 3, 1, 0] rfl)
theorem k_X2_first {own : String} {index : Nat} (hq : (Cond.methodLink own index yX2_first) ∈ lw_all) (hF : gXK p m c cc nL s args own g A R rm) (hL0 : L0 ≤ b) (hsu : suOK g.2.1 su b d G0) (hsc : suAt b d G0 sc.1 (.inl (g.2.1 0, sc.2.1, .inl sc.2.2))) (hG : gJK g L0 A s.heap (sG g.2.1 b d (su.1 0) sc σ G0) n H locs) (hl : lv_has ls nL lv) (h1 : 2 + 1 ≤ rm.frames) (h2 : 8 + (4 + 11) + 46 ≤ rm.locals) {p0 : Int32} {f : Int32 → Option γ} (h : ob1 (c_X2_first su σ p0) f = some o) (hc : cells ≤ rm.cells ∧ slots ≤ rm.slots) (hW : (rest.map fun v => v.category).sum ≤ 8) (hdg : decode cc pc = .ok (.invokevirtual index, 3))
    (kk : ∀ (r : Int32) (H1 : Heap) (locs1 : List Loc), f r = some o → gJK g L0 A s.heap (sG g.2.1 b d (su.1 0) sc σ G0) n H1 locs1 → W p l e R s m args below meth c H1 locs1 cells slots Q (F0 m (pc + 3) ls (.int r :: rest))) : W p l e R s m args below meth c H locs cells slots Q (F0 m pc ls (.int p0 :: .ref b :: rest)) := by
  obtain ⟨r, hr, h⟩ := ob1_e h
  refine g_callV hF hG hl sG_0 (C := RX2) (T := TX2) (N := 26) rfl (w_X2_first hL0 hsu hsc σ p0 hr) (cwV 1 hF.1.2.2.2.2 (lw_V hq q822 qs1 q83 q823) rfl rfl rfl (by decide +kernel) (g_room hF h1 h2)) rfl rfl hW hdg (hf0 hF.2.2.2.2 hc) (fun v G1 n1 H1 locs1 hR hG1 => ?_)
  obtain ⟨rfl, e2, e3⟩ := hR
  rw [e2, e3] at hG1
  exact kk r H1 locs1 h hG1
/-! X2_measures -/
def c_X2_measures_L4 (su : SU) : Nat → Int32 → SS → Option (SS)
  | 0, _, _ => none
  | n + 1, y5, σ6 =>
    if (U_n su) ≤ y5 then (
    some σ6)
    else (
    ob1 (S_rd σ6 2 y5) fun (v7 : Int32) =>
    ob1 (S_rd σ6 1 y5) fun (v8 : Int32) =>
    ob1 (
    if v8 = 2 then (
    some (1 : Int32))
    else (
    some (0 : Int32))) fun (z9 : Int32) =>
    ob1 (S_wr σ6 2 y5 (v7 - z9)) fun (σ10 : SS) =>
    nm (y5 + 1) fun (x11 : Int32) =>
    c_X2_measures_L4 su n x11 σ10)
def c_X2_measures (su : SU) (σ : SS) : Option (SS) :=
ob1 (c_X2_load su σ) fun (v1 : Int32) =>
nm (S_sf σ 24 v1) fun (σ2 : SS) =>
nm (S_sf σ2 23 (if (σ2.1 23) < (σ2.1 24) then (σ2.1 24) else (σ2.1 23))) fun (σ3 : SS) =>
ob1 (
c_X2_measures_L4 su 4096 0 σ3) fun (σ12 : SS) =>
nm (S_sf σ12 19 ((σ12.1 19) + 1)) fun (σ13 : SS) =>
if (σ13.1 24) ≤ (σ13.1 17) then (
some σ13)
else (
nm (S_sf σ13 22 ((σ13.1 22) + 1)) fun (σ14 : SS) =>
ob1 (c_X2_blackout su σ14 5) fun (σ15 : SS) =>
some σ15)
set_option maxRecDepth 100000 in
theorem w_X2_measures {l : Launch} {g : gNum} {L0 b d sz : Nat} {su : SU} {sc : SC} {G0 : GH} (hL0 : L0 ≤ b) (hsu : suOK g.2.1 su b d G0) (hsc : suAt b d G0 sc.1 (.inl (g.2.1 0, sc.2.1, .inl sc.2.2))) (σ : SS) {out : SS} (h : c_X2_measures su σ = some out) : gMet l yX2_measures (ws_ yX2_measures cX2_measures 2 none) g.1 clX L0 (gK g) [.ref b] (sG g.2.1 b d (su.1 0) sc σ G0) sz 6 128 0 0 (fun v G n => v = none ∧ G = sG g.2.1 b d (su.1 0) sc out G0 ∧ n = sz) := by
  refine gMet.of (own := RX2) (gK_ok g) (by decide +kernel) (Nat.le_of_ble_eq_true rfl) rfl ?_
  intro p e R s m args below meth c A Q ls H hF hQ hin hG hl
  have hx := hF.1.1
  have hb := hF.1.2.1
  have hts := hF.1.2.2.2.2
  have hl : lv_has ls 2 [(0, .ref b)] := hl
  unfold c_X2_measures at h
  refine lv_aload_n hx hb dX2_measures_0 rfl (lv_at hl 0 rfl) ?_
  refine lv_aload_n hx hb dX2_measures_1 rfl (lv_at hl 0 rfl) ?_
  refine k_X2_load q1707 hF hL0 hsu hsc hG hl (Nat.le_of_ble_eq_true rfl) (Nat.le_of_ble_eq_true rfl) h ⟨Nat.le_of_ble_eq_true rfl, Nat.le_of_ble_eq_true rfl⟩ (Nat.le_of_ble_eq_true rfl) dX2_measures_2 (fun v1 H locs h hG => ?_)
  refine s_putI hF hL0 hG 24 (by decide) ⟨rfl, rfl, rfl⟩ q632 h dX2_measures_5 (fun σ2 H locs h hG => ?_)
  refine lv_aload_n hx hb dX2_measures_8 rfl (lv_at hl 0 rfl) ?_
  refine lv_aload_n hx hb dX2_measures_9 rfl (lv_at hl 0 rfl) ?_
  refine g_get hF hG sG_0 (C := RX2) (T := TX2) (N := 26) rfl in_X2 23 (by decide) q630 (fun _ h => h) (v := .int (σ2.1 23)) rfl dX2_measures_10 ?_
  refine lv_aload_n hx hb dX2_measures_13 rfl (lv_at hl 0 rfl) ?_
  refine g_get hF hG sG_0 (C := RX2) (T := TX2) (N := 26) rfl in_X2 24 (by decide) q632 (fun _ h => h) (v := .int (σ2.1 24)) rfl dX2_measures_14 ?_
  refine g_max hF hl q1662 (Nat.le_of_ble_eq_true rfl) (Nat.le_of_ble_eq_true rfl) ⟨Nat.le_of_ble_eq_true rfl, Nat.le_of_ble_eq_true rfl⟩ dX2_measures_17 ?_
  refine s_putI hF hL0 hG 23 (by decide) ⟨rfl, rfl, rfl⟩ q630 h dX2_measures_20 (fun σ3 H locs h hG => ?_)
  refine lv_iconst (v := 0) hx hb dX2_measures_23 (by decide) ?_
  refine lv_istore_n hx hb dX2_measures_24 rfl hl (Nat.le_of_ble_eq_true rfl) (lv' := [(1, .int 0), (0, .ref b)]) rfl (fun ls hl => ?_)
  obtain ⟨X1, h, hJ1⟩ := ob1_u h
  have J1 : ∀ (σ12 : SS), X1 = σ12 → ∀ (H : Heap) (locs : List Loc) (ls : Array Slot), gJK g L0 A s.heap (sG g.2.1 b d (su.1 0) sc σ12 G0) sz H locs → lv_has ls 2 [(0, .ref b)] → W p l e R s m args below meth c H locs 0 0 Q (F0 m 66 ls []) := by
    intro σ12 e0 H locs ls hG hl
    have h := hJ1 σ12 e0
    refine lv_aload_n hx hb dX2_measures_66 rfl (lv_at hl 0 rfl) ?_
    refine lv_dup hx hb dX2_measures_67 rfl ?_
    refine g_get hF hG sG_0 (C := RX2) (T := TX2) (N := 26) rfl in_X2 19 (by decide) q622 (fun _ h => h) (v := .int (σ12.1 19)) rfl dX2_measures_68 ?_
    refine lv_iconst (v := 1) hx hb dX2_measures_71 (by decide) ?_
    refine lv_iadd hx hb dX2_measures_72 ?_
    refine s_putI hF hL0 hG 19 (by decide) ⟨rfl, rfl, rfl⟩ q622 h dX2_measures_73 (fun σ13 H locs h hG => ?_)
    refine lv_aload_n hx hb dX2_measures_76 rfl (lv_at hl 0 rfl) ?_
    refine g_get hF hG sG_0 (C := RX2) (T := TX2) (N := 26) rfl in_X2 24 (by decide) q632 (fun _ h => h) (v := .int (σ13.1 24)) rfl dX2_measures_77 ?_
    refine lv_aload_n hx hb dX2_measures_80 rfl (lv_at hl 0 rfl) ?_
    refine g_get hF hG sG_0 (C := RX2) (T := TX2) (N := 26) rfl in_X2 17 (by decide) q618 (fun _ h => h) (v := .int (σ13.1 17)) rfl dX2_measures_81 ?_
    refine gb_icmp_le hx hb dX2_measures_84 (tgt := 102) (by decide) h (fun h => ?_) (fun h => ?_)
    · have h := Option.some.inj h
      subst h
      exact g_vret hQ hG ⟨rfl, rfl, rfl⟩ (Nat.le_of_ble_eq_true rfl) (Nat.le_of_ble_eq_true rfl) dX2_measures_102
    · refine lv_aload_n hx hb dX2_measures_87 rfl (lv_at hl 0 rfl) ?_
      refine lv_dup hx hb dX2_measures_88 rfl ?_
      refine g_get hF hG sG_0 (C := RX2) (T := TX2) (N := 26) rfl in_X2 22 (by decide) q628 (fun _ h => h) (v := .int (σ13.1 22)) rfl dX2_measures_89 ?_
      refine lv_iconst (v := 1) hx hb dX2_measures_92 (by decide) ?_
      refine lv_iadd hx hb dX2_measures_93 ?_
      refine s_putI hF hL0 hG 22 (by decide) ⟨rfl, rfl, rfl⟩ q628 h dX2_measures_94 (fun σ14 H locs h hG => ?_)
      refine lv_aload_n hx hb dX2_measures_97 rfl (lv_at hl 0 rfl) ?_
      refine lv_iconst (v := 5) hx hb dX2_measures_98 (by decide) ?_
      refine k_X2_blackout q1658 hF hL0 hsu hsc hG hl (Nat.le_of_ble_eq_true rfl) (Nat.le_of_ble_eq_true rfl) h ⟨Nat.le_of_ble_eq_true rfl, Nat.le_of_ble_eq_true rfl⟩ (Nat.le_of_ble_eq_true rfl) dX2_measures_99 (fun σ15 H locs h hG => ?_)
      have h := Option.some.inj h
      subst h
      exact g_vret hQ hG ⟨rfl, rfl, rfl⟩ (Nat.le_of_ble_eq_true rfl) (Nat.le_of_ble_eq_true rfl) dX2_measures_102
  have LL4 : ∀ (n : Nat) (y5 : Int32) (σ6 : SS), c_X2_measures_L4 su n y5 σ6 = some X1 → ∀ (H : Heap) (locs : List Loc) (ls : Array Slot), gJK g L0 A s.heap (sG g.2.1 b d (su.1 0) sc σ6 G0) sz H locs → lv_has ls 2 [(0, .ref b), (1, .int y5)] → W p l e R s m args below meth c H locs 0 0 Q (F0 m 25 ls []) := by
    intro n
    induction n with
    | zero =>
      intro y5 σ6 h
      rw [c_X2_measures_L4] at h
      cases h
    | succ n ihL4 =>
      intro y5 σ6 h H locs ls hG hl
      rw [c_X2_measures_L4] at h
      refine lv_iload_n hx hb dX2_measures_25 rfl (lv_at hl 1 rfl) ?_
      refine lv_aload_n hx hb dX2_measures_26 rfl (lv_at hl 0 rfl) ?_
      refine g_get hF hG sG_0 (C := RX2) (T := TX2) (N := 26) rfl in_X2 0 (by decide) q589 (fun _ h => h) (v := .ref (su.1 0)) rfl dX2_measures_27 ?_
      refine ks_size q693 hF (su_of hsu) hG hl (Nat.le_of_ble_eq_true rfl) (Nat.le_of_ble_eq_true rfl) ⟨Nat.le_of_ble_eq_true rfl, Nat.le_of_ble_eq_true rfl⟩ (Nat.le_of_ble_eq_true rfl) dX2_measures_30 (fun H locs hG => ?_)
      refine gb_icmp_ge hx hb dX2_measures_33 (tgt := 66) (by decide) h (fun h => ?_) (fun h => ?_)
      · exact J1 _ (Option.some.inj h).symm _ _ _ hG (lv_sub hl [0] rfl)
      · refine lv_aload_n hx hb dX2_measures_36 rfl (lv_at hl 0 rfl) ?_
        refine g_get hF hG sG_0 (C := RX2) (T := TX2) (N := 26) rfl in_X2 2 (by decide) q593 (fun _ h => h) (v := .ref (b + d + 2)) rfl dX2_measures_37 ?_
        refine lv_iload_n hx hb dX2_measures_40 rfl (lv_at hl 1 rfl) ?_
        refine lv_dup2_11 hx hb dX2_measures_41 rfl rfl ?_
        refine s_rd hF hG (j := 2) (by decide) h dX2_measures_42 (fun v7 h => ?_)
        refine lv_aload_n hx hb dX2_measures_43 rfl (lv_at hl 0 rfl) ?_
        refine g_get hF hG sG_0 (C := RX2) (T := TX2) (N := 26) rfl in_X2 1 (by decide) q591 (fun _ h => h) (v := .ref (b + d + 1)) rfl dX2_measures_44 ?_
        refine lv_iload_n hx hb dX2_measures_47 rfl (lv_at hl 1 rfl) ?_
        refine s_rd hF hG (j := 1) (by decide) h dX2_measures_48 (fun v8 h => ?_)
        refine lv_iconst (v := 2) hx hb dX2_measures_49 (by decide) ?_
        obtain ⟨X2, h, hJ2⟩ := ob1_u h
        have J2 : ∀ (z9 : Int32), X2 = z9 → ∀ (H : Heap) (locs : List Loc) (ls : Array Slot), gJK g L0 A s.heap (sG g.2.1 b d (su.1 0) sc σ6 G0) sz H locs → lv_has ls 2 [(0, .ref b), (1, .int y5)] → W p l e R s m args below meth c H locs 0 0 Q (F0 m 58 ls [.int z9, .int v7, .int y5, .ref (b + d + 2)]) := by
          intro z9 e0 H locs ls hG hl
          have h := hJ2 z9 e0
          refine lv_isub hx hb dX2_measures_58 ?_
          refine s_wr hF hL0 hG (j := 2) (by decide) h dX2_measures_59 (fun σ10 H locs h hG => ?_)
          refine gb_iinc (k' := 1) hx hb dX2_measures_60 hl (k := 1) rfl (by decide) (Nat.le_of_ble_eq_true rfl) h (fun x11 ls h hl => ?_)
          have hl : lv_has ls 2 [(1, .int x11), (0, .ref b)] := hl
          refine lv_goto hx hb dX2_measures_63 (tgt := 25) (by decide) ?_
          exact ihL4 _ _ h _ _ _ hG (lv_sub hl [1, 0] rfl)
        refine gb_icmp_ne hx hb dX2_measures_50 (tgt := 57) (by decide) h (fun h => ?_) (fun h => ?_)
        · refine lv_iconst (v := 0) hx hb dX2_measures_57 (by decide) ?_
          exact J2 _ (Option.some.inj h).symm _ _ _ hG hl
        · refine lv_iconst (v := 1) hx hb dX2_measures_53 (by decide) ?_
          refine lv_goto hx hb dX2_measures_54 (tgt := 58) (by decide) ?_
          exact J2 _ (Option.some.inj h).symm _ _ _ hG hl
  exact LL4 _ _ _ h _ _ _ hG (lv_sub hl [1, 0] rfl)
theorem k_X2_measures {own : String} {index : Nat} (hq : (Cond.methodLink own index yX2_measures) ∈ lw_all) (hF : gXK p m c cc nL s args own g A R rm) (hL0 : L0 ≤ b) (hsu : suOK g.2.1 su b d G0) (hsc : suAt b d G0 sc.1 (.inl (g.2.1 0, sc.2.1, .inl sc.2.2))) (hG : gJK g L0 A s.heap (sG g.2.1 b d (su.1 0) sc σ G0) n H locs) (hl : lv_has ls nL lv) (h1 : 6 + 1 ≤ rm.frames) (h2 : 8 + (2 + 11) + 128 ≤ rm.locals) {f : SS → Option γ} (h : ob1 (c_X2_measures su σ) f = some o) (hc : cells ≤ rm.cells ∧ slots ≤ rm.slots) (hW : (rest.map fun v => v.category).sum ≤ 8) (hdg : decode cc pc = .ok (.invokevirtual index, 3))
    (kk : ∀ (σ1 : SS) (H1 : Heap) (locs1 : List Loc), f σ1 = some o → gJK g L0 A s.heap (sG g.2.1 b d (su.1 0) sc σ1 G0) n H1 locs1 → W p l e R s m args below meth c H1 locs1 cells slots Q (F0 m (pc + 3) ls rest)) : W p l e R s m args below meth c H locs cells slots Q (F0 m pc ls (.ref b :: rest)) := by
  obtain ⟨r, hr, h⟩ := ob1_e h
  refine g_callV hF hG hl sG_0 (C := RX2) (T := TX2) (N := 26) rfl (w_X2_measures hL0 hsu hsc σ hr) (cwV 0 hF.1.2.2.2.2 (lw_V hq q1705 qs35 q83 q1706) rfl rfl rfl (by decide +kernel) (g_room hF h1 h2)) rfl rfl hW hdg (hf0 hF.2.2.2.2 hc) (fun v G1 n1 H1 locs1 hR hG1 => ?_)
  obtain ⟨rfl, e2, e3⟩ := hR
  rw [e2, e3] at hG1
  exact kk r H1 locs1 h hG1
/-! X2_forget -/
def c_X2_forget (σ : SS) : Option (Int32 × SS) :=
ob1 (j_J16_bitCount (σ.1 16)) fun (v1 : Int32) =>
nm (S_sf σ 16 0) fun (σ2 : SS) =>
nm (S_sf σ2 30 0) fun (σ3 : SS) =>
some (v1, σ3)
set_option maxRecDepth 100000 in
theorem w_X2_forget {l : Launch} {g : gNum} {L0 b d sz : Nat} {su : SU} {sc : SC} {G0 : GH} (hL0 : L0 ≤ b) (hsu : suOK g.2.1 su b d G0) (hsc : suAt b d G0 sc.1 (.inl (g.2.1 0, sc.2.1, .inl sc.2.2))) (σ : SS) {out : Int32 × SS} (h : c_X2_forget σ = some out) : gMet l yX2_forget (ws_ yX2_forget cX2_forget 2 (some .int)) g.1 clX L0 (gK g) [.ref b] (sG g.2.1 b d (su.1 0) sc σ G0) sz 1 20 0 0 (fun v G n => v = some (.int out.1) ∧ G = sG g.2.1 b d (su.1 0) sc out.2 G0 ∧ n = sz) := by
  refine gMet.of (own := RX2) (gK_ok g) (by decide +kernel) (Nat.le_of_ble_eq_true rfl) rfl ?_
  intro p e R s m args below meth c A Q ls H hF hQ hin hG hl
  have hx := hF.1.1
  have hb := hF.1.2.1
  have hts := hF.1.2.2.2.2
  have hl : lv_has ls 2 [(0, .ref b)] := hl
  unfold c_X2_forget at h
  refine lv_aload_n hx hb dX2_forget_0 rfl (lv_at hl 0 rfl) ?_
  refine g_get hF hG sG_0 (C := RX2) (T := TX2) (N := 26) rfl in_X2 16 (by decide) q616 (fun _ h => h) (v := .int (σ.1 16)) rfl dX2_forget_1 ?_
  refine ks_bits q977 hF hG hl (Nat.le_of_ble_eq_true rfl) (Nat.le_of_ble_eq_true rfl) h ⟨Nat.le_of_ble_eq_true rfl, Nat.le_of_ble_eq_true rfl⟩ (Nat.le_of_ble_eq_true rfl) dX2_forget_4 (fun v1 H locs h hG => ?_)
  refine lv_istore_n hx hb dX2_forget_7 rfl hl (Nat.le_of_ble_eq_true rfl) (lv' := [(1, .int v1), (0, .ref b)]) rfl (fun ls hl => ?_)
  refine lv_aload_n hx hb dX2_forget_8 rfl (lv_at hl 1 rfl) ?_
  refine lv_iconst (v := 0) hx hb dX2_forget_9 (by decide) ?_
  refine s_putI hF hL0 hG 16 (by decide) ⟨rfl, rfl, rfl⟩ q616 h dX2_forget_10 (fun σ2 H locs h hG => ?_)
  refine lv_aload_n hx hb dX2_forget_13 rfl (lv_at hl 1 rfl) ?_
  refine g_get hF hG sG_0 (C := RX2) (T := TX2) (N := 26) rfl in_X2 10 (by decide) q608 (fun _ h => h) (v := .ref (b + d + 9)) rfl dX2_forget_14 ?_
  refine lv_iconst (v := 0) hx hb dX2_forget_17 (by decide) ?_
  refine s_putO9N hF hL0 hG q553 h dX2_forget_18 (fun σ3 H locs h hG => ?_)
  refine lv_iload_n hx hb dX2_forget_21 rfl (lv_at hl 0 rfl) ?_
  have h := Option.some.inj h
  subst h
  exact g_iret hQ hG ⟨rfl, rfl, rfl⟩ (Nat.le_of_ble_eq_true rfl) (Nat.le_of_ble_eq_true rfl) dX2_forget_22
theorem k_X2_forget {own : String} {index : Nat} (hq : (Cond.methodLink own index yX2_forget) ∈ lw_all) (hF : gXK p m c cc nL s args own g A R rm) (hL0 : L0 ≤ b) (hsu : suOK g.2.1 su b d G0) (hsc : suAt b d G0 sc.1 (.inl (g.2.1 0, sc.2.1, .inl sc.2.2))) (hG : gJK g L0 A s.heap (sG g.2.1 b d (su.1 0) sc σ G0) n H locs) (hl : lv_has ls nL lv) (h1 : 1 + 1 ≤ rm.frames) (h2 : 8 + (2 + 11) + 20 ≤ rm.locals) {f : Int32 → SS → Option γ} (h : ob2 (c_X2_forget σ) f = some o) (hc : cells ≤ rm.cells ∧ slots ≤ rm.slots) (hW : (rest.map fun v => v.category).sum ≤ 8) (hdg : decode cc pc = .ok (.invokevirtual index, 3))
    (kk : ∀ (r : Int32) (σ1 : SS) (H1 : Heap) (locs1 : List Loc), f r σ1 = some o → gJK g L0 A s.heap (sG g.2.1 b d (su.1 0) sc σ1 G0) n H1 locs1 → W p l e R s m args below meth c H1 locs1 cells slots Q (F0 m (pc + 3) ls (.int r :: rest))) : W p l e R s m args below meth c H locs cells slots Q (F0 m pc ls (.ref b :: rest)) := by
  obtain ⟨r, r2, hr, h⟩ := ob2_e h
  refine g_callV hF hG hl sG_0 (C := RX2) (T := TX2) (N := 26) rfl (w_X2_forget hL0 hsu hsc σ hr) (cwV 0 hF.1.2.2.2.2 (lw_V hq q974 q975 q83 q976) rfl rfl rfl (by decide +kernel) (g_room hF h1 h2)) rfl rfl hW hdg (hf0 hF.2.2.2.2 hc) (fun v G1 n1 H1 locs1 hR hG1 => ?_)
  obtain ⟨rfl, e2, e3⟩ := hR
  rw [e2, e3] at hG1
  exact kk r r2 H1 locs1 h hG1
end CC
