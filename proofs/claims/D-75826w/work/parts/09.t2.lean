section TT
variable {p : Program} {l : Launch} {e : Env} {R : Room} {s : State} {m : MethodId} {args : Array Value} {below : List Frame} {meth : Method} {c : Code} {H : Heap} {locs : List Loc} {cells slots : Nat} {Q : State → Prop}
variable {cc : ByteArray} {pc : Nat} {ls : Array Slot} {rest : List Value} {D : va_G} {A : Nat → Prop} {L0 n nL : Nat} {K : gKT} {rm : Room} {lv : List (Nat × Value)}
variable {dA : Nat → ClassId} {b : Nat} {σ : TS} {G0 : GH}
/-! isDark -/
def t_X6_isDark (σ : TS) (p0 : Nat) : Option (Int32) :=
ob1 (T_rd σ p0 0) fun (v1 : Int32) =>
ob1 (T_rd σ p0 1) fun (v2 : Int32) =>
if v2 ≤ v1 then (
some 0)
else (
some 1)
set_option maxRecDepth 100000 in
theorem w_X6_isDark {l : Launch} {D : va_G} {dA : Nat → ClassId} {K : gKT} {L0 b sz : Nat} {G0 : GH} (hKo : gKo D clX (tyA dA) K) (hL0 : L0 ≤ b) (σ : TS) (p0 : Nat) (hj0 : twI p0) {out : Int32} (h : t_X6_isDark σ p0 = some out) : gMet l yX6_isDark (ws_ yX6_isDark cX6_isDark 2 (some .boolean)) D clX L0 K [.ref b, .ref (b + p0)] (twG dA b σ G0) sz 0 0 0 0 (twRI dA b σ G0 sz out) := by
  refine gMet.of (own := RX6) hKo (by decide +kernel) (Nat.le_of_ble_eq_true rfl) rfl ?_
  intro p e R s m args below meth c A Q ls H hF hQ hin hG hl
  have hx := hF.1.1
  have hb := hF.1.2.1
  have hts := hF.1.2.2.2.2
  have hl : lv_has ls 2 [(0, .ref b), (1, .ref (b + p0))] := hl
  unfold t_X6_isDark at h
  refine lv_aload_n hx hb dX6_isDark_0 rfl (lv_at hl 1 rfl) ?_
  refine lv_iconst (v := 0) hx hb dX6_isDark_1 (by decide) ?_
  refine tw_rd hF hG (j := p0) hj0 h dX6_isDark_2 (fun v1 h => ?_)
  refine lv_aload_n hx hb dX6_isDark_3 rfl (lv_at hl 1 rfl) ?_
  refine lv_iconst (v := 1) hx hb dX6_isDark_4 (by decide) ?_
  refine tw_rd hF hG (j := p0) hj0 h dX6_isDark_5 (fun v2 h => ?_)
  refine gb_icmp_ge hx hb dX6_isDark_6 (tgt := 13) (by decide) h (fun h => ?_) (fun h => ?_)
  · refine lv_iconst (v := 0) hx hb dX6_isDark_13 (by decide) ?_
    have h := Option.some.inj h
    subst h
    exact g_zret hQ hG (by decide) ⟨rfl, rfl, rfl⟩ (Nat.le_refl _) (Nat.le_refl _) dX6_isDark_14
  · refine lv_iconst (v := 1) hx hb dX6_isDark_9 (by decide) ?_
    refine lv_goto hx hb dX6_isDark_10 (tgt := 14) (by decide) ?_
    have h := Option.some.inj h
    subst h
    exact g_zret hQ hG (by decide) ⟨rfl, rfl, rfl⟩ (Nat.le_refl _) (Nat.le_refl _) dX6_isDark_14
theorem k_X6_isDark (hF : gX p m c cc nL s args RX6 D clX (tyA dA) K A R rm) (hL0 : L0 ≤ b) (hG : gJ D clX L0 A s.heap (twG dA b σ G0) n H locs) (hl : lv_has ls nL lv) (h1 : 0 + 1 ≤ rm.frames) (h2 : 8 + (2 + 11) + 0 ≤ rm.locals) {p0 : Nat} (hj0 : twI p0) {γ : Type} {f : Int32 → Option γ} {o : γ} (h : ob1 (t_X6_isDark σ p0) f = some o) (hc : cells ≤ rm.cells ∧ slots ≤ rm.slots) (hW : (rest.map fun v => v.category).sum ≤ 8) (hdg : decode cc pc = .ok (.invokevirtual 275, 3))
    (kk : ∀ (r : Int32) (H1 : Heap) (locs1 : List Loc), f r = some o → gJ D clX L0 A s.heap (twG dA b σ G0) n H1 locs1 → W p l e R s m args below meth c H1 locs1 cells slots Q (F0 m (pc + 3) ls (.int r :: rest))) : W p l e R s m args below meth c H locs cells slots Q (F0 m pc ls (.ref (b + p0) :: .ref b :: rest)) := by
  obtain ⟨r, hr, h⟩ := ob1_e h
  refine g_callV hF hG hl twG_obj (C := RX6) (T := TX6) (N := 35) rfl (w_X6_isDark hF.2.2.1 hL0 σ p0 hj0 hr) (cwV 1 hF.1.2.2.2.2 (lw_V q2070 q2072 qs54 q108 q2073) rfl rfl rfl (by decide +kernel) (g_room hF h1 h2)) rfl rfl hW hdg ⟨by rw [hF.2.2.2.2]; exact hc.1, by rw [hF.2.2.2.2]; exact hc.2⟩ (fun v G1 n1 H1 locs1 hR hG1 => ?_)
  obtain ⟨rfl, rfl, rfl⟩ := hR
  exact kk r H1 locs1 h hG1
/-! isOutlet -/
def t_X6_isOutlet (σ : TS) (p0 : Int32) : Option (Int32) :=
ob1 (t_X6_isIn (p0.toInt64) 0 (((σ.1 1) - 1).toInt64)) fun (v1 : Int32) =>
ob1 (retZ v1) fun (r2 : Int32) =>
some r2
set_option maxRecDepth 100000 in
theorem w_X6_isOutlet {l : Launch} {D : va_G} {dA : Nat → ClassId} {K : gKT} {L0 b sz : Nat} {G0 : GH} (hKo : gKo D clX (tyA dA) K) (hL0 : L0 ≤ b) (σ : TS) (p0 : Int32)  {out : Int32} (h : t_X6_isOutlet σ p0 = some out) : gMet l yX6_isOutlet (ws_ yX6_isOutlet cX6_isOutlet 2 (some .boolean)) D clX L0 K [.ref b, .int p0] (twG dA b σ G0) sz 1 25 0 0 (twRI dA b σ G0 sz out) := by
  refine gMet.of (own := RX6) hKo (by decide +kernel) (Nat.le_of_ble_eq_true rfl) rfl ?_
  intro p e R s m args below meth c A Q ls H hF hQ hin hG hl
  have hx := hF.1.1
  have hb := hF.1.2.1
  have hts := hF.1.2.2.2.2
  have hl : lv_has ls 2 [(0, .ref b), (1, .int p0)] := hl
  unfold t_X6_isOutlet at h
  refine lv_iload_n hx hb dX6_isOutlet_0 rfl (lv_at hl 1 rfl) ?_
  refine lv_i2l hx hb dX6_isOutlet_1 rfl ?_
  refine lv_lconst (v := 0) hx hb dX6_isOutlet_2 (by decide) ?_
  refine lv_aload_n hx hb dX6_isOutlet_3 rfl (lv_at hl 0 rfl) ?_
  refine tw_getI hF hG 1 (by decide) q1834 rfl dX6_isOutlet_4 ?_
  refine lv_iconst (v := 1) hx hb dX6_isOutlet_7 (by decide) ?_
  refine lv_isub hx hb dX6_isOutlet_8 ?_
  refine lv_i2l hx hb dX6_isOutlet_9 rfl ?_
  refine k_X6_isIn hF hL0 hG hl (Nat.le_of_ble_eq_true rfl) (Nat.le_of_ble_eq_true rfl) h ⟨Nat.le_of_ble_eq_true rfl, Nat.le_of_ble_eq_true rfl⟩ (Nat.le_of_ble_eq_true rfl) dX6_isOutlet_10 (fun v1 H locs h hG => ?_)
  obtain ⟨r2, hz, h⟩ := ob1_e h
  obtain ⟨ez, hz⟩ := retZ_e hz
  have h := Option.some.inj h
  subst h
  rw [← ez] at hQ
  exact g_zret hQ hG hz ⟨rfl, rfl, rfl⟩ (Nat.le_refl _) (Nat.le_refl _) dX6_isOutlet_13
theorem k_X6_isOutlet (hF : gX p m c cc nL s args RX6 D clX (tyA dA) K A R rm) (hL0 : L0 ≤ b) (hG : gJ D clX L0 A s.heap (twG dA b σ G0) n H locs) (hl : lv_has ls nL lv) (h1 : 1 + 1 ≤ rm.frames) (h2 : 8 + (2 + 11) + 25 ≤ rm.locals) {p0 : Int32} {γ : Type} {f : Int32 → Option γ} {o : γ} (h : ob1 (t_X6_isOutlet σ p0) f = some o) (hc : cells ≤ rm.cells ∧ slots ≤ rm.slots) (hW : (rest.map fun v => v.category).sum ≤ 8) (hdg : decode cc pc = .ok (.invokevirtual 301, 3))
    (kk : ∀ (r : Int32) (H1 : Heap) (locs1 : List Loc), f r = some o → gJ D clX L0 A s.heap (twG dA b σ G0) n H1 locs1 → W p l e R s m args below meth c H1 locs1 cells slots Q (F0 m (pc + 3) ls (.int r :: rest))) : W p l e R s m args below meth c H locs cells slots Q (F0 m pc ls (.int p0 :: .ref b :: rest)) := by
  obtain ⟨r, hr, h⟩ := ob1_e h
  refine g_callV hF hG hl twG_obj (C := RX6) (T := TX6) (N := 35) rfl (w_X6_isOutlet hF.2.2.1 hL0 σ p0 hr) (cwV 1 hF.1.2.2.2.2 (lw_V q2078 q2080 qs55 q108 q2081) rfl rfl rfl (by decide +kernel) (g_room hF h1 h2)) rfl rfl hW hdg ⟨by rw [hF.2.2.2.2]; exact hc.1, by rw [hF.2.2.2.2]; exact hc.2⟩ (fun v G1 n1 H1 locs1 hR hG1 => ?_)
  obtain ⟨rfl, rfl, rfl⟩ := hR
  exact kk r H1 locs1 h hG1
/-! count -/
def t_X6_count (σ : TS) (p0 : Int32) : Option (Int32 × TS) :=
nm (T_sf σ 0 0) fun (σ1 : TS) =>
ob1 (t_X6_isIn (p0.toInt64) 0 13) fun (v2 : Int32) =>
ob2 (t_X6_may σ1 v2 1) fun (v3 : Int32) (σ4 : TS) =>
if v3 = 0 then (
some (0, σ4))
else (
if p0 = 0 then (
some ((σ4.1 1), σ4))
else if p0 = 1 then (
some ((σ4.1 2), σ4))
else if p0 = 2 then (
ob1 (T_rd σ4 6 0) fun (v5 : Int32) =>
some (v5, σ4))
else if p0 = 3 then (
ob1 (t_X6_isDark σ4 6) fun (v6 : Int32) =>
if v6 = 0 then (
some (1, σ4))
else (
some (0, σ4)))
else if p0 = 4 then (
ob1 (T_rd σ4 6 2) fun (v7 : Int32) =>
some (v7, σ4))
else if p0 = 5 then (
ob1 (T_rd σ4 6 3) fun (v8 : Int32) =>
some (v8, σ4))
else if p0 = 6 then (
ob1 (T_rd σ4 6 11) fun (v9 : Int32) =>
some (v9, σ4))
else if p0 = 7 then (
ob1 (T_rd σ4 6 4) fun (v10 : Int32) =>
some (v10, σ4))
else if p0 = 8 then (
ob1 (T_rd σ4 6 5) fun (v11 : Int32) =>
some (v11, σ4))
else if p0 = 9 then (
ob1 (T_rd σ4 6 6) fun (v12 : Int32) =>
some (v12, σ4))
else if p0 = 10 then (
ob1 (T_rd σ4 6 7) fun (v13 : Int32) =>
some (v13, σ4))
else if p0 = 11 then (
ob1 (T_rd σ4 6 8) fun (v14 : Int32) =>
some (v14, σ4))
else if p0 = 12 then (
ob1 (T_rd σ4 6 9) fun (v15 : Int32) =>
some (v15, σ4))
else (
some ((σ4.1 15), σ4)))
set_option maxRecDepth 100000 in
theorem w_X6_count {l : Launch} {D : va_G} {dA : Nat → ClassId} {K : gKT} {L0 b sz : Nat} {G0 : GH} (hKo : gKo D clX (tyA dA) K) (hL0 : L0 ≤ b) (σ : TS) (p0 : Int32)  {out : Int32 × TS} (h : t_X6_count σ p0 = some out) : gMet l yX6_count (ws_ yX6_count cX6_count 2 (some .int)) D clX L0 K [.ref b, .int p0] (twG dA b σ G0) sz 1 25 0 0 (twRI dA b out.2 G0 sz out.1) := by
  refine gMet.of (own := RX6) hKo (by decide +kernel) (Nat.le_of_ble_eq_true rfl) rfl ?_
  intro p e R s m args below meth c A Q ls H hF hQ hin hG hl
  have hx := hF.1.1
  have hb := hF.1.2.1
  have hts := hF.1.2.2.2.2
  have hl : lv_has ls 2 [(0, .ref b), (1, .int p0)] := hl
  unfold t_X6_count at h
  refine lv_aload_n hx hb dX6_count_0 rfl (lv_at hl 0 rfl) ?_
  refine lv_iconst (v := 0) hx hb dX6_count_1 (by decide) ?_
  refine tw_putI hF hL0 hG 0 (by decide) q1833 rfl h dX6_count_2 (fun σ1 H locs h hG => ?_)
  refine lv_aload_n hx hb dX6_count_5 rfl (lv_at hl 0 rfl) ?_
  refine lv_iload_n hx hb dX6_count_6 rfl (lv_at hl 1 rfl) ?_
  refine lv_i2l hx hb dX6_count_7 rfl ?_
  refine lv_lconst (v := 0) hx hb dX6_count_8 (by decide) ?_
  refine lv_ldc2 (v := 13) hx hb hF.1.2.2.2.1 (hts _ q2069) dX6_count_9 ?_
  refine k_X6_isIn hF hL0 hG hl (Nat.le_of_ble_eq_true rfl) (Nat.le_of_ble_eq_true rfl) h ⟨Nat.le_of_ble_eq_true rfl, Nat.le_of_ble_eq_true rfl⟩ (Nat.le_of_ble_eq_true rfl) dX6_count_12 (fun v2 H locs h hG => ?_)
  refine lv_iconst (v := 1) hx hb dX6_count_15 (by decide) ?_
  refine k_X6_may hF hL0 hG hl (Nat.le_of_ble_eq_true rfl) (Nat.le_of_ble_eq_true rfl) h ⟨Nat.le_of_ble_eq_true rfl, Nat.le_of_ble_eq_true rfl⟩ (Nat.le_of_ble_eq_true rfl) dX6_count_16 (fun v3 σ4 H locs h hG => ?_)
  refine gb_if_ne hx hb dX6_count_19 (tgt := 24) (by decide) h (fun h => ?_) (fun h => ?_)
  · refine lv_iload_n hx hb dX6_count_24 rfl (lv_at hl 1 rfl) ?_
    rcases gb_if h with ⟨c1, h⟩ | ⟨c1, h⟩
    · refine gb_tabIn hx hb dX6_count_25 c1 (by decide) (by decide) rfl (tgt := 92) (by decide) ?_
      refine lv_aload_n hx hb dX6_count_92 rfl (lv_at hl 0 rfl) ?_
      refine tw_getI hF hG 1 (by decide) q1834 rfl dX6_count_93 ?_
      have h := Option.some.inj h
      subst h
      exact g_iret hQ hG ⟨rfl, rfl, rfl⟩ (Nat.le_refl _) (Nat.le_refl _) dX6_count_96
    rcases gb_if h with ⟨c2, h⟩ | ⟨c2, h⟩
    · refine gb_tabIn hx hb dX6_count_25 c2 (by decide) (by decide) rfl (tgt := 97) (by decide) ?_
      refine lv_aload_n hx hb dX6_count_97 rfl (lv_at hl 0 rfl) ?_
      refine tw_getI hF hG 2 (by decide) q1835 rfl dX6_count_98 ?_
      have h := Option.some.inj h
      subst h
      exact g_iret hQ hG ⟨rfl, rfl, rfl⟩ (Nat.le_refl _) (Nat.le_refl _) dX6_count_101
    rcases gb_if h with ⟨c3, h⟩ | ⟨c3, h⟩
    · refine gb_tabIn hx hb dX6_count_25 c3 (by decide) (by decide) rfl (tgt := 102) (by decide) ?_
      refine lv_aload_n hx hb dX6_count_102 rfl (lv_at hl 0 rfl) ?_
      refine tw_getR hF hG 10 6 (by decide) q1843 rfl dX6_count_103 ?_
      refine lv_iconst (v := 0) hx hb dX6_count_106 (by decide) ?_
      refine tw_rd hF hG (j := 6) (by decide) h dX6_count_107 (fun v5 h => ?_)
      have h := Option.some.inj h
      subst h
      exact g_iret hQ hG ⟨rfl, rfl, rfl⟩ (Nat.le_refl _) (Nat.le_refl _) dX6_count_108
    rcases gb_if h with ⟨c4, h⟩ | ⟨c4, h⟩
    · refine gb_tabIn hx hb dX6_count_25 c4 (by decide) (by decide) rfl (tgt := 109) (by decide) ?_
      refine lv_aload_n hx hb dX6_count_109 rfl (lv_at hl 0 rfl) ?_
      refine lv_aload_n hx hb dX6_count_110 rfl (lv_at hl 0 rfl) ?_
      refine tw_getR hF hG 10 6 (by decide) q1843 rfl dX6_count_111 ?_
      refine k_X6_isDark hF hL0 hG hl (Nat.le_of_ble_eq_true rfl) (Nat.le_of_ble_eq_true rfl) (by decide) h ⟨Nat.le_of_ble_eq_true rfl, Nat.le_of_ble_eq_true rfl⟩ (Nat.le_of_ble_eq_true rfl) dX6_count_114 (fun v6 H locs h hG => ?_)
      refine gb_if_eq hx hb dX6_count_117 (tgt := 124) (by decide) h (fun h => ?_) (fun h => ?_)
      · refine lv_iconst (v := 1) hx hb dX6_count_124 (by decide) ?_
        have h := Option.some.inj h
        subst h
        exact g_iret hQ hG ⟨rfl, rfl, rfl⟩ (Nat.le_refl _) (Nat.le_refl _) dX6_count_125
      · refine lv_iconst (v := 0) hx hb dX6_count_120 (by decide) ?_
        refine lv_goto hx hb dX6_count_121 (tgt := 125) (by decide) ?_
        have h := Option.some.inj h
        subst h
        exact g_iret hQ hG ⟨rfl, rfl, rfl⟩ (Nat.le_refl _) (Nat.le_refl _) dX6_count_125
    rcases gb_if h with ⟨c5, h⟩ | ⟨c5, h⟩
    · refine gb_tabIn hx hb dX6_count_25 c5 (by decide) (by decide) rfl (tgt := 126) (by decide) ?_
      refine lv_aload_n hx hb dX6_count_126 rfl (lv_at hl 0 rfl) ?_
      refine tw_getR hF hG 10 6 (by decide) q1843 rfl dX6_count_127 ?_
      refine lv_iconst (v := 2) hx hb dX6_count_130 (by decide) ?_
      refine tw_rd hF hG (j := 6) (by decide) h dX6_count_131 (fun v7 h => ?_)
      have h := Option.some.inj h
      subst h
      exact g_iret hQ hG ⟨rfl, rfl, rfl⟩ (Nat.le_refl _) (Nat.le_refl _) dX6_count_132
    rcases gb_if h with ⟨c6, h⟩ | ⟨c6, h⟩
    · refine gb_tabIn hx hb dX6_count_25 c6 (by decide) (by decide) rfl (tgt := 133) (by decide) ?_
      refine lv_aload_n hx hb dX6_count_133 rfl (lv_at hl 0 rfl) ?_
      refine tw_getR hF hG 10 6 (by decide) q1843 rfl dX6_count_134 ?_
      refine lv_iconst (v := 3) hx hb dX6_count_137 (by decide) ?_
      refine tw_rd hF hG (j := 6) (by decide) h dX6_count_138 (fun v8 h => ?_)
      have h := Option.some.inj h
      subst h
      exact g_iret hQ hG ⟨rfl, rfl, rfl⟩ (Nat.le_refl _) (Nat.le_refl _) dX6_count_139
    rcases gb_if h with ⟨c7, h⟩ | ⟨c7, h⟩
    · refine gb_tabIn hx hb dX6_count_25 c7 (by decide) (by decide) rfl (tgt := 140) (by decide) ?_
      refine lv_aload_n hx hb dX6_count_140 rfl (lv_at hl 0 rfl) ?_
      refine tw_getR hF hG 10 6 (by decide) q1843 rfl dX6_count_141 ?_
      refine lv_bipush (v := 11) hx hb dX6_count_144 (by decide) ?_
      refine tw_rd hF hG (j := 6) (by decide) h dX6_count_146 (fun v9 h => ?_)
      have h := Option.some.inj h
      subst h
      exact g_iret hQ hG ⟨rfl, rfl, rfl⟩ (Nat.le_refl _) (Nat.le_refl _) dX6_count_147
    rcases gb_if h with ⟨c8, h⟩ | ⟨c8, h⟩
    · refine gb_tabIn hx hb dX6_count_25 c8 (by decide) (by decide) rfl (tgt := 148) (by decide) ?_
      refine lv_aload_n hx hb dX6_count_148 rfl (lv_at hl 0 rfl) ?_
      refine tw_getR hF hG 10 6 (by decide) q1843 rfl dX6_count_149 ?_
      refine lv_iconst (v := 4) hx hb dX6_count_152 (by decide) ?_
      refine tw_rd hF hG (j := 6) (by decide) h dX6_count_153 (fun v10 h => ?_)
      have h := Option.some.inj h
      subst h
      exact g_iret hQ hG ⟨rfl, rfl, rfl⟩ (Nat.le_refl _) (Nat.le_refl _) dX6_count_154
    rcases gb_if h with ⟨c9, h⟩ | ⟨c9, h⟩
    · refine gb_tabIn hx hb dX6_count_25 c9 (by decide) (by decide) rfl (tgt := 155) (by decide) ?_
      refine lv_aload_n hx hb dX6_count_155 rfl (lv_at hl 0 rfl) ?_
      refine tw_getR hF hG 10 6 (by decide) q1843 rfl dX6_count_156 ?_
      refine lv_iconst (v := 5) hx hb dX6_count_159 (by decide) ?_
      refine tw_rd hF hG (j := 6) (by decide) h dX6_count_160 (fun v11 h => ?_)
      have h := Option.some.inj h
      subst h
      exact g_iret hQ hG ⟨rfl, rfl, rfl⟩ (Nat.le_refl _) (Nat.le_refl _) dX6_count_161
    rcases gb_if h with ⟨c10, h⟩ | ⟨c10, h⟩
    · refine gb_tabIn hx hb dX6_count_25 c10 (by decide) (by decide) rfl (tgt := 162) (by decide) ?_
      refine lv_aload_n hx hb dX6_count_162 rfl (lv_at hl 0 rfl) ?_
      refine tw_getR hF hG 10 6 (by decide) q1843 rfl dX6_count_163 ?_
      refine lv_bipush (v := 6) hx hb dX6_count_166 (by decide) ?_
      refine tw_rd hF hG (j := 6) (by decide) h dX6_count_168 (fun v12 h => ?_)
      have h := Option.some.inj h
      subst h
      exact g_iret hQ hG ⟨rfl, rfl, rfl⟩ (Nat.le_refl _) (Nat.le_refl _) dX6_count_169
    rcases gb_if h with ⟨c11, h⟩ | ⟨c11, h⟩
    · refine gb_tabIn hx hb dX6_count_25 c11 (by decide) (by decide) rfl (tgt := 170) (by decide) ?_
      refine lv_aload_n hx hb dX6_count_170 rfl (lv_at hl 0 rfl) ?_
      refine tw_getR hF hG 10 6 (by decide) q1843 rfl dX6_count_171 ?_
      refine lv_bipush (v := 7) hx hb dX6_count_174 (by decide) ?_
      refine tw_rd hF hG (j := 6) (by decide) h dX6_count_176 (fun v13 h => ?_)
      have h := Option.some.inj h
      subst h
      exact g_iret hQ hG ⟨rfl, rfl, rfl⟩ (Nat.le_refl _) (Nat.le_refl _) dX6_count_177
    rcases gb_if h with ⟨c12, h⟩ | ⟨c12, h⟩
    · refine gb_tabIn hx hb dX6_count_25 c12 (by decide) (by decide) rfl (tgt := 178) (by decide) ?_
      refine lv_aload_n hx hb dX6_count_178 rfl (lv_at hl 0 rfl) ?_
      refine tw_getR hF hG 10 6 (by decide) q1843 rfl dX6_count_179 ?_
      refine lv_bipush (v := 8) hx hb dX6_count_182 (by decide) ?_
      refine tw_rd hF hG (j := 6) (by decide) h dX6_count_184 (fun v14 h => ?_)
      have h := Option.some.inj h
      subst h
      exact g_iret hQ hG ⟨rfl, rfl, rfl⟩ (Nat.le_refl _) (Nat.le_refl _) dX6_count_185
    rcases gb_if h with ⟨c13, h⟩ | ⟨c13, h⟩
    · refine gb_tabIn hx hb dX6_count_25 c13 (by decide) (by decide) rfl (tgt := 186) (by decide) ?_
      refine lv_aload_n hx hb dX6_count_186 rfl (lv_at hl 0 rfl) ?_
      refine tw_getR hF hG 10 6 (by decide) q1843 rfl dX6_count_187 ?_
      refine lv_bipush (v := 9) hx hb dX6_count_190 (by decide) ?_
      refine tw_rd hF hG (j := 6) (by decide) h dX6_count_192 (fun v15 h => ?_)
      have h := Option.some.inj h
      subst h
      exact g_iret hQ hG ⟨rfl, rfl, rfl⟩ (Nat.le_refl _) (Nat.le_refl _) dX6_count_193
    refine lv_tableOut hx hb dX6_count_25 ?_ (tgt := 194) (by decide) ?_
    · have e1 := lv_neT c1 (a := 0) (by decide)
      have e2 := lv_neT c2 (a := 1) (by decide)
      have e3 := lv_neT c3 (a := 2) (by decide)
      have e4 := lv_neT c4 (a := 3) (by decide)
      have e5 := lv_neT c5 (a := 4) (by decide)
      have e6 := lv_neT c6 (a := 5) (by decide)
      have e7 := lv_neT c7 (a := 6) (by decide)
      have e8 := lv_neT c8 (a := 7) (by decide)
      have e9 := lv_neT c9 (a := 8) (by decide)
      have e10 := lv_neT c10 (a := 9) (by decide)
      have e11 := lv_neT c11 (a := 10) (by decide)
      have e12 := lv_neT c12 (a := 11) (by decide)
      have e13 := lv_neT c13 (a := 12) (by decide)
      omega
    refine lv_aload_n hx hb dX6_count_194 rfl (lv_at hl 0 rfl) ?_
    refine tw_getI hF hG 15 (by decide) q1848 rfl dX6_count_195 ?_
    have h := Option.some.inj h
    subst h
    exact g_iret hQ hG ⟨rfl, rfl, rfl⟩ (Nat.le_refl _) (Nat.le_refl _) dX6_count_198
  · refine lv_iconst (v := 0) hx hb dX6_count_22 (by decide) ?_
    have h := Option.some.inj h
    subst h
    exact g_iret hQ hG ⟨rfl, rfl, rfl⟩ (Nat.le_refl _) (Nat.le_refl _) dX6_count_23
/-! outlet -/
def t_X6_outlet (σ : TS) (p0 : Int32) (p1 : Int32) : Option (Int32 × TS) :=
nm (T_sf σ 0 0) fun (σ1 : TS) =>
ob1 (t_X6_isOutlet σ1 p0) fun (v2 : Int32) =>
ob2 (t_X6_may σ1 v2 1) fun (v3 : Int32) (σ4 : TS) =>
if v3 = 0 then (
some (0, σ4))
else (
ob1 (t_X6_isIn (p1.toInt64) 0 9) fun (v5 : Int32) =>
ob2 (t_X6_may σ4 v5 2) fun (v6 : Int32) (σ7 : TS) =>
if v6 = 0 then (
some (0, σ7))
else (
if 4 ≤ p1 then (
ob1 (t_X6_at p0 (p1 - 4)) fun (v8 : Int32) =>
ob1 (T_rd σ7 6 v8) fun (v9 : Int32) =>
some (v9, σ7))
else (
ob1 (T_rd σ7 1 ((4 * p0) + p1)) fun (v10 : Int32) =>
some (v10, σ7))))
set_option maxRecDepth 100000 in
theorem w_X6_outlet {l : Launch} {D : va_G} {dA : Nat → ClassId} {K : gKT} {L0 b sz : Nat} {G0 : GH} (hKo : gKo D clX (tyA dA) K) (hL0 : L0 ≤ b) (σ : TS) (p0 : Int32) (p1 : Int32)  {out : Int32 × TS} (h : t_X6_outlet σ p0 p1 = some out) : gMet l yX6_outlet (ws_ yX6_outlet cX6_outlet 3 (some .int)) D clX L0 K [.ref b, .int p0, .int p1] (twG dA b σ G0) sz 2 46 0 0 (twRI dA b out.2 G0 sz out.1) := by
  refine gMet.of (own := RX6) hKo (by decide +kernel) (Nat.le_of_ble_eq_true rfl) rfl ?_
  intro p e R s m args below meth c A Q ls H hF hQ hin hG hl
  have hx := hF.1.1
  have hb := hF.1.2.1
  have hts := hF.1.2.2.2.2
  have hl : lv_has ls 3 [(0, .ref b), (1, .int p0), (2, .int p1)] := hl
  unfold t_X6_outlet at h
  refine lv_aload_n hx hb dX6_outlet_0 rfl (lv_at hl 0 rfl) ?_
  refine lv_iconst (v := 0) hx hb dX6_outlet_1 (by decide) ?_
  refine tw_putI hF hL0 hG 0 (by decide) q1833 rfl h dX6_outlet_2 (fun σ1 H locs h hG => ?_)
  refine lv_aload_n hx hb dX6_outlet_5 rfl (lv_at hl 0 rfl) ?_
  refine lv_aload_n hx hb dX6_outlet_6 rfl (lv_at hl 0 rfl) ?_
  refine lv_iload_n hx hb dX6_outlet_7 rfl (lv_at hl 1 rfl) ?_
  refine k_X6_isOutlet hF hL0 hG hl (Nat.le_of_ble_eq_true rfl) (Nat.le_of_ble_eq_true rfl) h ⟨Nat.le_of_ble_eq_true rfl, Nat.le_of_ble_eq_true rfl⟩ (Nat.le_of_ble_eq_true rfl) dX6_outlet_8 (fun v2 H locs h hG => ?_)
  refine lv_iconst (v := 1) hx hb dX6_outlet_11 (by decide) ?_
  refine k_X6_may hF hL0 hG hl (Nat.le_of_ble_eq_true rfl) (Nat.le_of_ble_eq_true rfl) h ⟨Nat.le_of_ble_eq_true rfl, Nat.le_of_ble_eq_true rfl⟩ (Nat.le_of_ble_eq_true rfl) dX6_outlet_12 (fun v3 σ4 H locs h hG => ?_)
  refine gb_if_eq hx hb dX6_outlet_15 (tgt := 35) (by decide) h (fun h => ?_) (fun h => ?_)
  · refine lv_iconst (v := 0) hx hb dX6_outlet_35 (by decide) ?_
    have h := Option.some.inj h
    subst h
    exact g_iret hQ hG ⟨rfl, rfl, rfl⟩ (Nat.le_refl _) (Nat.le_refl _) dX6_outlet_36
  · refine lv_aload_n hx hb dX6_outlet_18 rfl (lv_at hl 0 rfl) ?_
    refine lv_iload_n hx hb dX6_outlet_19 rfl (lv_at hl 2 rfl) ?_
    refine lv_i2l hx hb dX6_outlet_20 rfl ?_
    refine lv_lconst (v := 0) hx hb dX6_outlet_21 (by decide) ?_
    refine lv_ldc2 (v := 9) hx hb hF.1.2.2.2.1 (hts _ q2082) dX6_outlet_22 ?_
    refine k_X6_isIn hF hL0 hG hl (Nat.le_of_ble_eq_true rfl) (Nat.le_of_ble_eq_true rfl) h ⟨Nat.le_of_ble_eq_true rfl, Nat.le_of_ble_eq_true rfl⟩ (Nat.le_of_ble_eq_true rfl) dX6_outlet_25 (fun v5 H locs h hG => ?_)
    refine lv_iconst (v := 2) hx hb dX6_outlet_28 (by decide) ?_
    refine k_X6_may hF hL0 hG hl (Nat.le_of_ble_eq_true rfl) (Nat.le_of_ble_eq_true rfl) h ⟨Nat.le_of_ble_eq_true rfl, Nat.le_of_ble_eq_true rfl⟩ (Nat.le_of_ble_eq_true rfl) dX6_outlet_29 (fun v6 σ7 H locs h hG => ?_)
    refine gb_if_ne hx hb dX6_outlet_32 (tgt := 37) (by decide) h (fun h => ?_) (fun h => ?_)
    · refine lv_iload_n hx hb dX6_outlet_37 rfl (lv_at hl 2 rfl) ?_
      refine lv_iconst (v := 4) hx hb dX6_outlet_38 (by decide) ?_
      refine gb_icmp_ge hx hb dX6_outlet_39 (tgt := 55) (by decide) h (fun h => ?_) (fun h => ?_)
      · refine lv_aload_n hx hb dX6_outlet_55 rfl (lv_at hl 0 rfl) ?_
        refine tw_getR hF hG 10 6 (by decide) q1843 rfl dX6_outlet_56 ?_
        refine lv_iload_n hx hb dX6_outlet_59 rfl (lv_at hl 1 rfl) ?_
        refine lv_iload_n hx hb dX6_outlet_60 rfl (lv_at hl 2 rfl) ?_
        refine lv_iconst (v := 4) hx hb dX6_outlet_61 (by decide) ?_
        refine lv_isub hx hb dX6_outlet_62 ?_
        refine k_X6_at hF hL0 hG hl (Nat.le_of_ble_eq_true rfl) (Nat.le_of_ble_eq_true rfl) h ⟨Nat.le_of_ble_eq_true rfl, Nat.le_of_ble_eq_true rfl⟩ (Nat.le_of_ble_eq_true rfl) dX6_outlet_63 (fun v8 H locs h hG => ?_)
        refine tw_rd hF hG (j := 6) (by decide) h dX6_outlet_66 (fun v9 h => ?_)
        have h := Option.some.inj h
        subst h
        exact g_iret hQ hG ⟨rfl, rfl, rfl⟩ (Nat.le_refl _) (Nat.le_refl _) dX6_outlet_67
      · refine lv_aload_n hx hb dX6_outlet_42 rfl (lv_at hl 0 rfl) ?_
        refine tw_getR hF hG 5 1 (by decide) q1838 rfl dX6_outlet_43 ?_
        refine lv_iconst (v := 4) hx hb dX6_outlet_46 (by decide) ?_
        refine lv_iload_n hx hb dX6_outlet_47 rfl (lv_at hl 1 rfl) ?_
        refine lv_imul hx hb dX6_outlet_48 ?_
        refine lv_iload_n hx hb dX6_outlet_49 rfl (lv_at hl 2 rfl) ?_
        refine lv_iadd hx hb dX6_outlet_50 ?_
        refine tw_rd hF hG (j := 1) (by decide) h dX6_outlet_51 (fun v10 h => ?_)
        refine lv_goto hx hb dX6_outlet_52 (tgt := 67) (by decide) ?_
        have h := Option.some.inj h
        subst h
        exact g_iret hQ hG ⟨rfl, rfl, rfl⟩ (Nat.le_refl _) (Nat.le_refl _) dX6_outlet_67
    · refine lv_iconst (v := 0) hx hb dX6_outlet_35 (by decide) ?_
      have h := Option.some.inj h
      subst h
      exact g_iret hQ hG ⟨rfl, rfl, rfl⟩ (Nat.le_refl _) (Nat.le_refl _) dX6_outlet_36
/-! peak -/
def t_X6_peak (σ : TS) (p0 : Int32) : Option (Int32) :=
ob1 (T_rd σ 1 ((4 * p0) + 2)) fun (v1 : Int32) =>
some v1
set_option maxRecDepth 100000 in
theorem w_X6_peak {l : Launch} {D : va_G} {dA : Nat → ClassId} {K : gKT} {L0 b sz : Nat} {G0 : GH} (hKo : gKo D clX (tyA dA) K) (hL0 : L0 ≤ b) (σ : TS) (p0 : Int32)  {out : Int32} (h : t_X6_peak σ p0 = some out) : gMet l yX6_peak (ws_ yX6_peak cX6_peak 2 (some .int)) D clX L0 K [.ref b, .int p0] (twG dA b σ G0) sz 0 0 0 0 (twRI dA b σ G0 sz out) := by
  refine gMet.of (own := RX6) hKo (by decide +kernel) (Nat.le_of_ble_eq_true rfl) rfl ?_
  intro p e R s m args below meth c A Q ls H hF hQ hin hG hl
  have hx := hF.1.1
  have hb := hF.1.2.1
  have hts := hF.1.2.2.2.2
  have hl : lv_has ls 2 [(0, .ref b), (1, .int p0)] := hl
  unfold t_X6_peak at h
  refine lv_aload_n hx hb dX6_peak_0 rfl (lv_at hl 0 rfl) ?_
  refine tw_getR hF hG 5 1 (by decide) q1838 rfl dX6_peak_1 ?_
  refine lv_iconst (v := 4) hx hb dX6_peak_4 (by decide) ?_
  refine lv_iload_n hx hb dX6_peak_5 rfl (lv_at hl 1 rfl) ?_
  refine lv_imul hx hb dX6_peak_6 ?_
  refine lv_iconst (v := 2) hx hb dX6_peak_7 (by decide) ?_
  refine lv_iadd hx hb dX6_peak_8 ?_
  refine tw_rd hF hG (j := 1) (by decide) h dX6_peak_9 (fun v1 h => ?_)
  have h := Option.some.inj h
  subst h
  exact g_iret hQ hG ⟨rfl, rfl, rfl⟩ (Nat.le_refl _) (Nat.le_refl _) dX6_peak_10
theorem k_X6_peak (hF : gX p m c cc nL s args RX6 D clX (tyA dA) K A R rm) (hL0 : L0 ≤ b) (hG : gJ D clX L0 A s.heap (twG dA b σ G0) n H locs) (hl : lv_has ls nL lv) (h1 : 0 + 1 ≤ rm.frames) (h2 : 8 + (2 + 11) + 0 ≤ rm.locals) {p0 : Int32} {γ : Type} {f : Int32 → Option γ} {o : γ} (h : ob1 (t_X6_peak σ p0) f = some o) (hc : cells ≤ rm.cells ∧ slots ≤ rm.slots) (hW : (rest.map fun v => v.category).sum ≤ 8) (hdg : decode cc pc = .ok (.invokevirtual 222, 3))
    (kk : ∀ (r : Int32) (H1 : Heap) (locs1 : List Loc), f r = some o → gJ D clX L0 A s.heap (twG dA b σ G0) n H1 locs1 → W p l e R s m args below meth c H1 locs1 cells slots Q (F0 m (pc + 3) ls (.int r :: rest))) : W p l e R s m args below meth c H locs cells slots Q (F0 m pc ls (.int p0 :: .ref b :: rest)) := by
  obtain ⟨r, hr, h⟩ := ob1_e h
  refine g_callV hF hG hl twG_obj (C := RX6) (T := TX6) (N := 35) rfl (w_X6_peak hF.2.2.1 hL0 σ p0 hr) (cwV 1 hF.1.2.2.2.2 (lw_V q2092 q2094 qs57 q108 q2095) rfl rfl rfl (by decide +kernel) (g_room hF h1 h2)) rfl rfl hW hdg ⟨by rw [hF.2.2.2.2]; exact hc.1, by rw [hF.2.2.2.2]; exact hc.2⟩ (fun v G1 n1 H1 locs1 hR hG1 => ?_)
  obtain ⟨rfl, rfl, rfl⟩ := hR
  exact kk r H1 locs1 h hG1
/-! inrush -/
def t_X6_inrush (σ : TS) (p0 : Int32) : Option (Int32) :=
ob1 (T_rd σ 1 ((4 * p0) + 1)) fun (v1 : Int32) =>
some v1
set_option maxRecDepth 100000 in
theorem w_X6_inrush {l : Launch} {D : va_G} {dA : Nat → ClassId} {K : gKT} {L0 b sz : Nat} {G0 : GH} (hKo : gKo D clX (tyA dA) K) (hL0 : L0 ≤ b) (σ : TS) (p0 : Int32)  {out : Int32} (h : t_X6_inrush σ p0 = some out) : gMet l yX6_inrush (ws_ yX6_inrush cX6_inrush 2 (some .int)) D clX L0 K [.ref b, .int p0] (twG dA b σ G0) sz 0 0 0 0 (twRI dA b σ G0 sz out) := by
  refine gMet.of (own := RX6) hKo (by decide +kernel) (Nat.le_of_ble_eq_true rfl) rfl ?_
  intro p e R s m args below meth c A Q ls H hF hQ hin hG hl
  have hx := hF.1.1
  have hb := hF.1.2.1
  have hts := hF.1.2.2.2.2
  have hl : lv_has ls 2 [(0, .ref b), (1, .int p0)] := hl
  unfold t_X6_inrush at h
  refine lv_aload_n hx hb dX6_inrush_0 rfl (lv_at hl 0 rfl) ?_
  refine tw_getR hF hG 5 1 (by decide) q1838 rfl dX6_inrush_1 ?_
  refine lv_iconst (v := 4) hx hb dX6_inrush_4 (by decide) ?_
  refine lv_iload_n hx hb dX6_inrush_5 rfl (lv_at hl 1 rfl) ?_
  refine lv_imul hx hb dX6_inrush_6 ?_
  refine lv_iconst (v := 1) hx hb dX6_inrush_7 (by decide) ?_
  refine lv_iadd hx hb dX6_inrush_8 ?_
  refine tw_rd hF hG (j := 1) (by decide) h dX6_inrush_9 (fun v1 h => ?_)
  have h := Option.some.inj h
  subst h
  exact g_iret hQ hG ⟨rfl, rfl, rfl⟩ (Nat.le_refl _) (Nat.le_refl _) dX6_inrush_10
theorem k_X6_inrush (hF : gX p m c cc nL s args RX6 D clX (tyA dA) K A R rm) (hL0 : L0 ≤ b) (hG : gJ D clX L0 A s.heap (twG dA b σ G0) n H locs) (hl : lv_has ls nL lv) (h1 : 0 + 1 ≤ rm.frames) (h2 : 8 + (2 + 11) + 0 ≤ rm.locals) {p0 : Int32} {γ : Type} {f : Int32 → Option γ} {o : γ} (h : ob1 (t_X6_inrush σ p0) f = some o) (hc : cells ≤ rm.cells ∧ slots ≤ rm.slots) (hW : (rest.map fun v => v.category).sum ≤ 8) (hdg : decode cc pc = .ok (.invokevirtual 232, 3))
    (kk : ∀ (r : Int32) (H1 : Heap) (locs1 : List Loc), f r = some o → gJ D clX L0 A s.heap (twG dA b σ G0) n H1 locs1 → W p l e R s m args below meth c H1 locs1 cells slots Q (F0 m (pc + 3) ls (.int r :: rest))) : W p l e R s m args below meth c H locs cells slots Q (F0 m pc ls (.int p0 :: .ref b :: rest)) := by
  obtain ⟨r, hr, h⟩ := ob1_e h
  refine g_callV hF hG hl twG_obj (C := RX6) (T := TX6) (N := 35) rfl (w_X6_inrush hF.2.2.1 hL0 σ p0 hr) (cwV 1 hF.1.2.2.2.2 (lw_V q2096 q2098 qs58 q108 q2099) rfl rfl rfl (by decide +kernel) (g_room hF h1 h2)) rfl rfl hW hdg ⟨by rw [hF.2.2.2.2]; exact hc.1, by rw [hF.2.2.2.2]; exact hc.2⟩ (fun v G1 n1 H1 locs1 hR hG1 => ?_)
  obtain ⟨rfl, rfl, rfl⟩ := hR
  exact kk r H1 locs1 h hG1
/-! steady -/
def t_X6_steady (σ : TS) (p0 : Int32) : Option (Int32) :=
ob1 (T_rd σ 1 (4 * p0)) fun (v1 : Int32) =>
some v1
set_option maxRecDepth 100000 in
theorem w_X6_steady {l : Launch} {D : va_G} {dA : Nat → ClassId} {K : gKT} {L0 b sz : Nat} {G0 : GH} (hKo : gKo D clX (tyA dA) K) (hL0 : L0 ≤ b) (σ : TS) (p0 : Int32)  {out : Int32} (h : t_X6_steady σ p0 = some out) : gMet l yX6_steady (ws_ yX6_steady cX6_steady 2 (some .int)) D clX L0 K [.ref b, .int p0] (twG dA b σ G0) sz 0 0 0 0 (twRI dA b σ G0 sz out) := by
  refine gMet.of (own := RX6) hKo (by decide +kernel) (Nat.le_of_ble_eq_true rfl) rfl ?_
  intro p e R s m args below meth c A Q ls H hF hQ hin hG hl
  have hx := hF.1.1
  have hb := hF.1.2.1
  have hts := hF.1.2.2.2.2
  have hl : lv_has ls 2 [(0, .ref b), (1, .int p0)] := hl
  unfold t_X6_steady at h
  refine lv_aload_n hx hb dX6_steady_0 rfl (lv_at hl 0 rfl) ?_
  refine tw_getR hF hG 5 1 (by decide) q1838 rfl dX6_steady_1 ?_
  refine lv_iconst (v := 4) hx hb dX6_steady_4 (by decide) ?_
  refine lv_iload_n hx hb dX6_steady_5 rfl (lv_at hl 1 rfl) ?_
  refine lv_imul hx hb dX6_steady_6 ?_
  refine tw_rd hF hG (j := 1) (by decide) h dX6_steady_7 (fun v1 h => ?_)
  have h := Option.some.inj h
  subst h
  exact g_iret hQ hG ⟨rfl, rfl, rfl⟩ (Nat.le_refl _) (Nat.le_refl _) dX6_steady_8
theorem k_X6_steady (hF : gX p m c cc nL s args RX6 D clX (tyA dA) K A R rm) (hL0 : L0 ≤ b) (hG : gJ D clX L0 A s.heap (twG dA b σ G0) n H locs) (hl : lv_has ls nL lv) (h1 : 0 + 1 ≤ rm.frames) (h2 : 8 + (2 + 11) + 0 ≤ rm.locals) {p0 : Int32} {γ : Type} {f : Int32 → Option γ} {o : γ} (h : ob1 (t_X6_steady σ p0) f = some o) (hc : cells ≤ rm.cells ∧ slots ≤ rm.slots) (hW : (rest.map fun v => v.category).sum ≤ 8) (hdg : decode cc pc = .ok (.invokevirtual 225, 3))
    (kk : ∀ (r : Int32) (H1 : Heap) (locs1 : List Loc), f r = some o → gJ D clX L0 A s.heap (twG dA b σ G0) n H1 locs1 → W p l e R s m args below meth c H1 locs1 cells slots Q (F0 m (pc + 3) ls (.int r :: rest))) : W p l e R s m args below meth c H locs cells slots Q (F0 m pc ls (.int p0 :: .ref b :: rest)) := by
  obtain ⟨r, hr, h⟩ := ob1_e h
  refine g_callV hF hG hl twG_obj (C := RX6) (T := TX6) (N := 35) rfl (w_X6_steady hF.2.2.1 hL0 σ p0 hr) (cwV 1 hF.1.2.2.2.2 (lw_V q2104 q2106 qs60 q108 q2107) rfl rfl rfl (by decide +kernel) (g_room hF h1 h2)) rfl rfl hW hdg ⟨by rw [hF.2.2.2.2]; exact hc.1, by rw [hF.2.2.2.2]; exact hc.2⟩ (fun v G1 n1 H1 locs1 hR hG1 => ?_)
  obtain ⟨rfl, rfl, rfl⟩ := hR
  exact kk r H1 locs1 h hG1
/-! expected -/
def t_X6_expected (σ : TS) (p0 : Nat) (p1 : Int32) : Option (Int32) :=
ob1 (t_X6_at p1 11) fun (v1 : Int32) =>
ob1 (T_rd σ p0 v1) fun (v2 : Int32) =>
if v2 = 1 then (
ob1 (t_X6_peak σ p1) fun (v4 : Int32) =>
some v4)
else (
ob1 (t_X6_inrush σ p1) fun (v3 : Int32) =>
some v3)
set_option maxRecDepth 100000 in
theorem w_X6_expected {l : Launch} {D : va_G} {dA : Nat → ClassId} {K : gKT} {L0 b sz : Nat} {G0 : GH} (hKo : gKo D clX (tyA dA) K) (hL0 : L0 ≤ b) (σ : TS) (p0 : Nat) (p1 : Int32) (hj0 : twI p0) {out : Int32} (h : t_X6_expected σ p0 p1 = some out) : gMet l yX6_expected (ws_ yX6_expected cX6_expected 3 (some .int)) D clX L0 K [.ref b, .ref (b + p0), .int p1] (twG dA b σ G0) sz 1 21 0 0 (twRI dA b σ G0 sz out) := by
  refine gMet.of (own := RX6) hKo (by decide +kernel) (Nat.le_of_ble_eq_true rfl) rfl ?_
  intro p e R s m args below meth c A Q ls H hF hQ hin hG hl
  have hx := hF.1.1
  have hb := hF.1.2.1
  have hts := hF.1.2.2.2.2
  have hl : lv_has ls 3 [(0, .ref b), (1, .ref (b + p0)), (2, .int p1)] := hl
  unfold t_X6_expected at h
  refine lv_aload_n hx hb dX6_expected_0 rfl (lv_at hl 1 rfl) ?_
  refine lv_iload_n hx hb dX6_expected_1 rfl (lv_at hl 2 rfl) ?_
  refine lv_bipush (v := 11) hx hb dX6_expected_2 (by decide) ?_
  refine k_X6_at hF hL0 hG hl (Nat.le_of_ble_eq_true rfl) (Nat.le_of_ble_eq_true rfl) h ⟨Nat.le_of_ble_eq_true rfl, Nat.le_of_ble_eq_true rfl⟩ (Nat.le_of_ble_eq_true rfl) dX6_expected_4 (fun v1 H locs h hG => ?_)
  refine tw_rd hF hG (j := p0) hj0 h dX6_expected_7 (fun v2 h => ?_)
  refine lv_iconst (v := 1) hx hb dX6_expected_8 (by decide) ?_
  refine gb_icmp_ne hx hb dX6_expected_9 (tgt := 20) (by decide) h (fun h => ?_) (fun h => ?_)
  · refine lv_aload_n hx hb dX6_expected_20 rfl (lv_at hl 0 rfl) ?_
    refine lv_iload_n hx hb dX6_expected_21 rfl (lv_at hl 2 rfl) ?_
    refine k_X6_inrush hF hL0 hG hl (Nat.le_of_ble_eq_true rfl) (Nat.le_of_ble_eq_true rfl) h ⟨Nat.le_of_ble_eq_true rfl, Nat.le_of_ble_eq_true rfl⟩ (Nat.le_of_ble_eq_true rfl) dX6_expected_22 (fun v3 H locs h hG => ?_)
    have h := Option.some.inj h
    subst h
    exact g_iret hQ hG ⟨rfl, rfl, rfl⟩ (Nat.le_refl _) (Nat.le_refl _) dX6_expected_25
  · refine lv_aload_n hx hb dX6_expected_12 rfl (lv_at hl 0 rfl) ?_
    refine lv_iload_n hx hb dX6_expected_13 rfl (lv_at hl 2 rfl) ?_
    refine k_X6_peak hF hL0 hG hl (Nat.le_of_ble_eq_true rfl) (Nat.le_of_ble_eq_true rfl) h ⟨Nat.le_of_ble_eq_true rfl, Nat.le_of_ble_eq_true rfl⟩ (Nat.le_of_ble_eq_true rfl) dX6_expected_14 (fun v4 H locs h hG => ?_)
    refine lv_goto hx hb dX6_expected_17 (tgt := 25) (by decide) ?_
    have h := Option.some.inj h
    subst h
    exact g_iret hQ hG ⟨rfl, rfl, rfl⟩ (Nat.le_refl _) (Nat.le_refl _) dX6_expected_25
theorem k_X6_expected (hF : gX p m c cc nL s args RX6 D clX (tyA dA) K A R rm) (hL0 : L0 ≤ b) (hG : gJ D clX L0 A s.heap (twG dA b σ G0) n H locs) (hl : lv_has ls nL lv) (h1 : 1 + 1 ≤ rm.frames) (h2 : 8 + (3 + 11) + 21 ≤ rm.locals) {p0 : Nat} {p1 : Int32} (hj0 : twI p0) {γ : Type} {f : Int32 → Option γ} {o : γ} (h : ob1 (t_X6_expected σ p0 p1) f = some o) (hc : cells ≤ rm.cells ∧ slots ≤ rm.slots) (hW : (rest.map fun v => v.category).sum ≤ 8) (hdg : decode cc pc = .ok (.invokevirtual 235, 3))
    (kk : ∀ (r : Int32) (H1 : Heap) (locs1 : List Loc), f r = some o → gJ D clX L0 A s.heap (twG dA b σ G0) n H1 locs1 → W p l e R s m args below meth c H1 locs1 cells slots Q (F0 m (pc + 3) ls (.int r :: rest))) : W p l e R s m args below meth c H locs cells slots Q (F0 m pc ls (.int p1 :: .ref (b + p0) :: .ref b :: rest)) := by
  obtain ⟨r, hr, h⟩ := ob1_e h
  refine g_callV hF hG hl twG_obj (C := RX6) (T := TX6) (N := 35) rfl (w_X6_expected hF.2.2.1 hL0 σ p0 p1 hj0 hr) (cwV 2 hF.1.2.2.2.2 (lw_V q2088 q2090 qs56 q108 q2091) rfl rfl rfl (by decide +kernel) (g_room hF h1 h2)) rfl rfl hW hdg ⟨by rw [hF.2.2.2.2]; exact hc.1, by rw [hF.2.2.2.2]; exact hc.2⟩ (fun v G1 n1 H1 locs1 hR hG1 => ?_)
  obtain ⟨rfl, rfl, rfl⟩ := hR
  exact kk r H1 locs1 h hG1
/-! reserved -/
def t_X6_reserved (σ : TS) (p0 : Nat) (p1 : Int32) : Option (Int32) :=
ob1 (t_X6_at p1 9) fun (v1 : Int32) =>
ob1 (T_rd σ p0 v1) fun (v2 : Int32) =>
if v2 = 2 then (
ob1 (t_X6_expected σ p0 p1) fun (v4 : Int32) =>
some v4)
else (
if v2 = 3 then (
ob1 (t_X6_steady σ p1) fun (v3 : Int32) =>
some v3)
else (
some 0))
set_option maxRecDepth 100000 in
theorem w_X6_reserved {l : Launch} {D : va_G} {dA : Nat → ClassId} {K : gKT} {L0 b sz : Nat} {G0 : GH} (hKo : gKo D clX (tyA dA) K) (hL0 : L0 ≤ b) (σ : TS) (p0 : Nat) (p1 : Int32) (hj0 : twI p0) {out : Int32} (h : t_X6_reserved σ p0 p1 = some out) : gMet l yX6_reserved (ws_ yX6_reserved cX6_reserved 4 (some .int)) D clX L0 K [.ref b, .ref (b + p0), .int p1] (twG dA b σ G0) sz 2 43 0 0 (twRI dA b σ G0 sz out) := by
  refine gMet.of (own := RX6) hKo (by decide +kernel) (Nat.le_of_ble_eq_true rfl) rfl ?_
  intro p e R s m args below meth c A Q ls H hF hQ hin hG hl
  have hx := hF.1.1
  have hb := hF.1.2.1
  have hts := hF.1.2.2.2.2
  have hl : lv_has ls 4 [(0, .ref b), (1, .ref (b + p0)), (2, .int p1)] := hl
  unfold t_X6_reserved at h
  refine lv_aload_n hx hb dX6_reserved_0 rfl (lv_at hl 1 rfl) ?_
  refine lv_iload_n hx hb dX6_reserved_1 rfl (lv_at hl 2 rfl) ?_
  refine lv_bipush (v := 9) hx hb dX6_reserved_2 (by decide) ?_
  refine k_X6_at hF hL0 hG hl (Nat.le_of_ble_eq_true rfl) (Nat.le_of_ble_eq_true rfl) h ⟨Nat.le_of_ble_eq_true rfl, Nat.le_of_ble_eq_true rfl⟩ (Nat.le_of_ble_eq_true rfl) dX6_reserved_4 (fun v1 H locs h hG => ?_)
  refine tw_rd hF hG (j := p0) hj0 h dX6_reserved_7 (fun v2 h => ?_)
  refine lv_istore_n hx hb dX6_reserved_8 rfl hl (Nat.le_of_ble_eq_true rfl) (lv' := [(3, .int v2), (0, .ref b), (1, .ref (b + p0)), (2, .int p1)]) rfl (fun ls hl => ?_)
  refine lv_iload_n hx hb dX6_reserved_9 rfl (lv_at hl 0 rfl) ?_
  refine lv_iconst (v := 2) hx hb dX6_reserved_10 (by decide) ?_
  refine gb_icmp_ne hx hb dX6_reserved_11 (tgt := 23) (by decide) h (fun h => ?_) (fun h => ?_)
  · refine lv_iload_n hx hb dX6_reserved_23 rfl (lv_at hl 0 rfl) ?_
    refine lv_iconst (v := 3) hx hb dX6_reserved_24 (by decide) ?_
    refine gb_icmp_ne hx hb dX6_reserved_25 (tgt := 36) (by decide) h (fun h => ?_) (fun h => ?_)
    · refine lv_iconst (v := 0) hx hb dX6_reserved_36 (by decide) ?_
      have h := Option.some.inj h
      subst h
      exact g_iret hQ hG ⟨rfl, rfl, rfl⟩ (Nat.le_refl _) (Nat.le_refl _) dX6_reserved_37
    · refine lv_aload_n hx hb dX6_reserved_28 rfl (lv_at hl 1 rfl) ?_
      refine lv_iload_n hx hb dX6_reserved_29 rfl (lv_at hl 3 rfl) ?_
      refine k_X6_steady hF hL0 hG hl (Nat.le_of_ble_eq_true rfl) (Nat.le_of_ble_eq_true rfl) h ⟨Nat.le_of_ble_eq_true rfl, Nat.le_of_ble_eq_true rfl⟩ (Nat.le_of_ble_eq_true rfl) dX6_reserved_30 (fun v3 H locs h hG => ?_)
      refine lv_goto hx hb dX6_reserved_33 (tgt := 37) (by decide) ?_
      have h := Option.some.inj h
      subst h
      exact g_iret hQ hG ⟨rfl, rfl, rfl⟩ (Nat.le_refl _) (Nat.le_refl _) dX6_reserved_37
  · refine lv_aload_n hx hb dX6_reserved_14 rfl (lv_at hl 1 rfl) ?_
    refine lv_aload_n hx hb dX6_reserved_15 rfl (lv_at hl 2 rfl) ?_
    refine lv_iload_n hx hb dX6_reserved_16 rfl (lv_at hl 3 rfl) ?_
    refine k_X6_expected hF hL0 hG hl (Nat.le_of_ble_eq_true rfl) (Nat.le_of_ble_eq_true rfl) hj0 h ⟨Nat.le_of_ble_eq_true rfl, Nat.le_of_ble_eq_true rfl⟩ (Nat.le_of_ble_eq_true rfl) dX6_reserved_17 (fun v4 H locs h hG => ?_)
    refine lv_goto hx hb dX6_reserved_20 (tgt := 37) (by decide) ?_
    have h := Option.some.inj h
    subst h
    exact g_iret hQ hG ⟨rfl, rfl, rfl⟩ (Nat.le_refl _) (Nat.le_refl _) dX6_reserved_37
theorem k_X6_reserved (hF : gX p m c cc nL s args RX6 D clX (tyA dA) K A R rm) (hL0 : L0 ≤ b) (hG : gJ D clX L0 A s.heap (twG dA b σ G0) n H locs) (hl : lv_has ls nL lv) (h1 : 2 + 1 ≤ rm.frames) (h2 : 8 + (4 + 11) + 43 ≤ rm.locals) {p0 : Nat} {p1 : Int32} (hj0 : twI p0) {γ : Type} {f : Int32 → Option γ} {o : γ} (h : ob1 (t_X6_reserved σ p0 p1) f = some o) (hc : cells ≤ rm.cells ∧ slots ≤ rm.slots) (hW : (rest.map fun v => v.category).sum ≤ 8) (hdg : decode cc pc = .ok (.invokevirtual 238, 3))
    (kk : ∀ (r : Int32) (H1 : Heap) (locs1 : List Loc), f r = some o → gJ D clX L0 A s.heap (twG dA b σ G0) n H1 locs1 → W p l e R s m args below meth c H1 locs1 cells slots Q (F0 m (pc + 3) ls (.int r :: rest))) : W p l e R s m args below meth c H locs cells slots Q (F0 m pc ls (.int p1 :: .ref (b + p0) :: .ref b :: rest)) := by
  obtain ⟨r, hr, h⟩ := ob1_e h
  refine g_callV hF hG hl twG_obj (C := RX6) (T := TX6) (N := 35) rfl (w_X6_reserved hF.2.2.1 hL0 σ p0 p1 hj0 hr) (cwV 2 hF.1.2.2.2.2 (lw_V q2100 q2102 qs59 q108 q2103) rfl rfl rfl (by decide +kernel) (g_room hF h1 h2)) rfl rfl hW hdg ⟨by rw [hF.2.2.2.2]; exact hc.1, by rw [hF.2.2.2.2]; exact hc.2⟩ (fun v G1 n1 H1 locs1 hR hG1 => ?_)
  obtain ⟨rfl, rfl, rfl⟩ := hR
  exact kk r H1 locs1 h hG1
/-! placeOf -/
def t_X6_placeOf_L1 (σ : TS) (p0 : Nat) (p1 : Int32) : Nat → Int32 → Option (Int32 ⊕ (Unit))
  | 0, _ => none
  | n + 1, y2 =>
    ob1 (T_rd σ p0 13) fun (v3 : Int32) =>
    if v3 ≤ y2 then (
    some (Sum.inr ()))
    else (
    ob1 (T_rd σ p0 (39 + y2)) fun (v4 : Int32) =>
    if v4 = p1 then (
    some (Sum.inl y2))
    else (
    nm (y2 + 1) fun (x5 : Int32) =>
    t_X6_placeOf_L1 σ p0 p1 n x5))
def t_X6_placeOf (σ : TS) (p0 : Nat) (p1 : Int32) : Option (Int32) :=
oe0 (ρ := Int32) (
t_X6_placeOf_L1 σ p0 p1 4096 0) (fun r => some r) (
some (-1))
set_option maxRecDepth 100000 in
theorem w_X6_placeOf {l : Launch} {D : va_G} {dA : Nat → ClassId} {K : gKT} {L0 b sz : Nat} {G0 : GH} (hKo : gKo D clX (tyA dA) K) (hL0 : L0 ≤ b) (σ : TS) (p0 : Nat) (p1 : Int32) (hj0 : twI p0) {out : Int32} (h : t_X6_placeOf σ p0 p1 = some out) : gMet l yX6_placeOf (ws_ yX6_placeOf cX6_placeOf 4 (some .int)) D clX L0 K [.ref b, .ref (b + p0), .int p1] (twG dA b σ G0) sz 0 0 0 0 (twRI dA b σ G0 sz out) := by
  refine gMet.of (own := RX6) hKo (by decide +kernel) (Nat.le_of_ble_eq_true rfl) rfl ?_
  intro p e R s m args below meth c A Q ls H hF hQ hin hG hl
  have hx := hF.1.1
  have hb := hF.1.2.1
  have hts := hF.1.2.2.2.2
  have hl : lv_has ls 4 [(0, .ref b), (1, .ref (b + p0)), (2, .int p1)] := hl
  unfold t_X6_placeOf at h
  refine lv_iconst (v := 0) hx hb dX6_placeOf_0 (by decide) ?_
  refine lv_istore_n hx hb dX6_placeOf_1 rfl hl (Nat.le_of_ble_eq_true rfl) (lv' := [(3, .int 0), (0, .ref b), (1, .ref (b + p0)), (2, .int p1)]) rfl (fun ls hl => ?_)
  obtain ⟨X1, h, hE1, hJ1⟩ := oe0_u h
  have J1 : X1 = Sum.inr () → ∀ (H : Heap) (locs : List Loc) (ls : Array Slot), gJ D clX L0 A s.heap (twG dA b σ G0) sz H locs → lv_has ls 4 [] → W p l e R s m args below meth c H locs 0 0 Q (F0 m 28 ls []) := by
    intro  e0 H locs ls hG hl
    have h := hJ1 e0
    refine lv_iconst (v := (-1)) hx hb dX6_placeOf_28 (by decide) ?_
    have h := Option.some.inj h
    subst h
    exact g_iret hQ hG ⟨rfl, rfl, rfl⟩ (Nat.le_refl _) (Nat.le_refl _) dX6_placeOf_29
  have LL1 : ∀ (n : Nat) (y2 : Int32), t_X6_placeOf_L1 σ p0 p1 n y2 = some X1 → ∀ (H : Heap) (locs : List Loc) (ls : Array Slot), gJ D clX L0 A s.heap (twG dA b σ G0) sz H locs → lv_has ls 4 [(1, .ref (b + p0)), (2, .int p1), (3, .int y2)] → W p l e R s m args below meth c H locs 0 0 Q (F0 m 2 ls []) := by
    intro n
    induction n with
    | zero =>
      intro y2 h
      rw [t_X6_placeOf_L1] at h
      cases h
    | succ n ihL1 =>
      intro y2 h H locs ls hG hl
      rw [t_X6_placeOf_L1] at h
      refine lv_iload_n hx hb dX6_placeOf_2 rfl (lv_at hl 2 rfl) ?_
      refine lv_aload_n hx hb dX6_placeOf_3 rfl (lv_at hl 0 rfl) ?_
      refine lv_bipush (v := 13) hx hb dX6_placeOf_4 (by decide) ?_
      refine tw_rd hF hG (j := p0) hj0 h dX6_placeOf_6 (fun v3 h => ?_)
      refine gb_icmp_ge hx hb dX6_placeOf_7 (tgt := 28) (by decide) h (fun h => ?_) (fun h => ?_)
      · exact J1 (Option.some.inj h).symm _ _ _ hG (lv_sub hl [] rfl)
      · refine lv_aload_n hx hb dX6_placeOf_10 rfl (lv_at hl 0 rfl) ?_
        refine lv_bipush (v := 39) hx hb dX6_placeOf_11 (by decide) ?_
        refine lv_iload_n hx hb dX6_placeOf_13 rfl (lv_at hl 2 rfl) ?_
        refine lv_iadd hx hb dX6_placeOf_14 ?_
        refine tw_rd hF hG (j := p0) hj0 h dX6_placeOf_15 (fun v4 h => ?_)
        refine lv_iload_n hx hb dX6_placeOf_16 rfl (lv_at hl 1 rfl) ?_
        refine gb_icmp_ne hx hb dX6_placeOf_17 (tgt := 22) (by decide) h (fun h => ?_) (fun h => ?_)
        · refine gb_iinc (k' := 1) hx hb dX6_placeOf_22 hl (k := 2) rfl (by decide) (Nat.le_of_ble_eq_true rfl) h (fun x5 ls h hl => ?_)
          have hl : lv_has ls 4 [(3, .int x5), (1, .ref (b + p0)), (2, .int p1)] := hl
          refine lv_goto hx hb dX6_placeOf_25 (tgt := 2) (by decide) ?_
          exact ihL1 _ h _ _ _ hG (lv_sub hl [1, 2, 0] rfl)
        · refine lv_iload_n hx hb dX6_placeOf_20 rfl (lv_at hl 2 rfl) ?_
          have h := hE1 _ (Option.some.inj h).symm
          have h := Option.some.inj h
          subst h
          exact g_iret hQ hG ⟨rfl, rfl, rfl⟩ (Nat.le_refl _) (Nat.le_refl _) dX6_placeOf_21
  exact LL1 _ _ h _ _ _ hG (lv_sub hl [2, 3, 0] rfl)
theorem k_X6_placeOf (hF : gX p m c cc nL s args RX6 D clX (tyA dA) K A R rm) (hL0 : L0 ≤ b) (hG : gJ D clX L0 A s.heap (twG dA b σ G0) n H locs) (hl : lv_has ls nL lv) (h1 : 0 + 1 ≤ rm.frames) (h2 : 8 + (4 + 11) + 0 ≤ rm.locals) {p0 : Nat} {p1 : Int32} (hj0 : twI p0) {γ : Type} {f : Int32 → Option γ} {o : γ} (h : ob1 (t_X6_placeOf σ p0 p1) f = some o) (hc : cells ≤ rm.cells ∧ slots ≤ rm.slots) (hW : (rest.map fun v => v.category).sum ≤ 8) (hdg : decode cc pc = .ok (.invokevirtual 257, 3))
    (kk : ∀ (r : Int32) (H1 : Heap) (locs1 : List Loc), f r = some o → gJ D clX L0 A s.heap (twG dA b σ G0) n H1 locs1 → W p l e R s m args below meth c H1 locs1 cells slots Q (F0 m (pc + 3) ls (.int r :: rest))) : W p l e R s m args below meth c H locs cells slots Q (F0 m pc ls (.int p1 :: .ref (b + p0) :: .ref b :: rest)) := by
  obtain ⟨r, hr, h⟩ := ob1_e h
  refine g_callV hF hG hl twG_obj (C := RX6) (T := TX6) (N := 35) rfl (w_X6_placeOf hF.2.2.1 hL0 σ p0 p1 hj0 hr) (cwV 2 hF.1.2.2.2.2 (lw_V q2108 q2110 qs61 q108 q2111) rfl rfl rfl (by decide +kernel) (g_room hF h1 h2)) rfl rfl hW hdg ⟨by rw [hF.2.2.2.2]; exact hc.1, by rw [hF.2.2.2.2]; exact hc.2⟩ (fun v G1 n1 H1 locs1 hR hG1 => ?_)
  obtain ⟨rfl, rfl, rfl⟩ := hR
  exact kk r H1 locs1 h hG1
/-! known -/
def t_X6_known (σ : TS) (p0 : Int32) (p1 : Int32) : Option (Int32 × TS) :=
nm (T_sf σ 0 0) fun (σ1 : TS) =>
ob1 (t_X6_isOutlet σ1 p0) fun (v2 : Int32) =>
ob2 (t_X6_may σ1 v2 1) fun (v3 : Int32) (σ4 : TS) =>
if v3 = 0 then (
some (0, σ4))
else (
ob1 (t_X6_isIn (p1.toInt64) 0 5) fun (v5 : Int32) =>
ob2 (t_X6_may σ4 v5 2) fun (v6 : Int32) (σ7 : TS) =>
if v6 = 0 then (
some (0, σ7))
else (
if p1 = 0 then (
ob1 (t_X6_at p0 9) fun (v8 : Int32) =>
ob1 (T_rd σ7 6 v8) fun (v9 : Int32) =>
some (v9, σ7))
else if p1 = 1 then (
ob1 (t_X6_at p0 10) fun (v10 : Int32) =>
ob1 (T_rd σ7 6 v10) fun (v11 : Int32) =>
some (v11, σ7))
else if p1 = 2 then (
ob1 (t_X6_expected σ7 6 p0) fun (v12 : Int32) =>
some (v12, σ7))
else if p1 = 3 then (
ob1 (t_X6_reserved σ7 6 p0) fun (v13 : Int32) =>
some (v13, σ7))
else if p1 = 4 then (
ob1 (t_X6_placeOf σ7 6 p0) fun (v14 : Int32) =>
some (v14, σ7))
else (
ob1 (t_X6_at p0 11) fun (v15 : Int32) =>
ob1 (T_rd σ7 6 v15) fun (v16 : Int32) =>
some (v16, σ7))))
set_option maxRecDepth 100000 in
theorem w_X6_known {l : Launch} {D : va_G} {dA : Nat → ClassId} {K : gKT} {L0 b sz : Nat} {G0 : GH} (hKo : gKo D clX (tyA dA) K) (hL0 : L0 ≤ b) (σ : TS) (p0 : Int32) (p1 : Int32)  {out : Int32 × TS} (h : t_X6_known σ p0 p1 = some out) : gMet l yX6_known (ws_ yX6_known cX6_known 3 (some .int)) D clX L0 K [.ref b, .int p0, .int p1] (twG dA b σ G0) sz 3 66 0 0 (twRI dA b out.2 G0 sz out.1) := by
  refine gMet.of (own := RX6) hKo (by decide +kernel) (Nat.le_of_ble_eq_true rfl) rfl ?_
  intro p e R s m args below meth c A Q ls H hF hQ hin hG hl
  have hx := hF.1.1
  have hb := hF.1.2.1
  have hts := hF.1.2.2.2.2
  have hl : lv_has ls 3 [(0, .ref b), (1, .int p0), (2, .int p1)] := hl
  unfold t_X6_known at h
  refine lv_aload_n hx hb dX6_known_0 rfl (lv_at hl 0 rfl) ?_
  refine lv_iconst (v := 0) hx hb dX6_known_1 (by decide) ?_
  refine tw_putI hF hL0 hG 0 (by decide) q1833 rfl h dX6_known_2 (fun σ1 H locs h hG => ?_)
  refine lv_aload_n hx hb dX6_known_5 rfl (lv_at hl 0 rfl) ?_
  refine lv_aload_n hx hb dX6_known_6 rfl (lv_at hl 0 rfl) ?_
  refine lv_iload_n hx hb dX6_known_7 rfl (lv_at hl 1 rfl) ?_
  refine k_X6_isOutlet hF hL0 hG hl (Nat.le_of_ble_eq_true rfl) (Nat.le_of_ble_eq_true rfl) h ⟨Nat.le_of_ble_eq_true rfl, Nat.le_of_ble_eq_true rfl⟩ (Nat.le_of_ble_eq_true rfl) dX6_known_8 (fun v2 H locs h hG => ?_)
  refine lv_iconst (v := 1) hx hb dX6_known_11 (by decide) ?_
  refine k_X6_may hF hL0 hG hl (Nat.le_of_ble_eq_true rfl) (Nat.le_of_ble_eq_true rfl) h ⟨Nat.le_of_ble_eq_true rfl, Nat.le_of_ble_eq_true rfl⟩ (Nat.le_of_ble_eq_true rfl) dX6_known_12 (fun v3 σ4 H locs h hG => ?_)
  refine gb_if_eq hx hb dX6_known_15 (tgt := 35) (by decide) h (fun h => ?_) (fun h => ?_)
  · refine lv_iconst (v := 0) hx hb dX6_known_35 (by decide) ?_
    have h := Option.some.inj h
    subst h
    exact g_iret hQ hG ⟨rfl, rfl, rfl⟩ (Nat.le_refl _) (Nat.le_refl _) dX6_known_36
  · refine lv_aload_n hx hb dX6_known_18 rfl (lv_at hl 0 rfl) ?_
    refine lv_iload_n hx hb dX6_known_19 rfl (lv_at hl 2 rfl) ?_
    refine lv_i2l hx hb dX6_known_20 rfl ?_
    refine lv_lconst (v := 0) hx hb dX6_known_21 (by decide) ?_
    refine lv_ldc2 (v := 5) hx hb hF.1.2.2.2.1 (hts _ q2087) dX6_known_22 ?_
    refine k_X6_isIn hF hL0 hG hl (Nat.le_of_ble_eq_true rfl) (Nat.le_of_ble_eq_true rfl) h ⟨Nat.le_of_ble_eq_true rfl, Nat.le_of_ble_eq_true rfl⟩ (Nat.le_of_ble_eq_true rfl) dX6_known_25 (fun v5 H locs h hG => ?_)
    refine lv_iconst (v := 2) hx hb dX6_known_28 (by decide) ?_
    refine k_X6_may hF hL0 hG hl (Nat.le_of_ble_eq_true rfl) (Nat.le_of_ble_eq_true rfl) h ⟨Nat.le_of_ble_eq_true rfl, Nat.le_of_ble_eq_true rfl⟩ (Nat.le_of_ble_eq_true rfl) dX6_known_29 (fun v6 σ7 H locs h hG => ?_)
    refine gb_if_ne hx hb dX6_known_32 (tgt := 37) (by decide) h (fun h => ?_) (fun h => ?_)
    · refine lv_iload_n hx hb dX6_known_37 rfl (lv_at hl 2 rfl) ?_
      rcases gb_if h with ⟨c1, h⟩ | ⟨c1, h⟩
      · refine gb_tabIn hx hb dX6_known_38 c1 (by decide) (by decide) rfl (tgt := 72) (by decide) ?_
        refine lv_aload_n hx hb dX6_known_72 rfl (lv_at hl 0 rfl) ?_
        refine tw_getR hF hG 10 6 (by decide) q1843 rfl dX6_known_73 ?_
        refine lv_iload_n hx hb dX6_known_76 rfl (lv_at hl 1 rfl) ?_
        refine lv_bipush (v := 9) hx hb dX6_known_77 (by decide) ?_
        refine k_X6_at hF hL0 hG hl (Nat.le_of_ble_eq_true rfl) (Nat.le_of_ble_eq_true rfl) h ⟨Nat.le_of_ble_eq_true rfl, Nat.le_of_ble_eq_true rfl⟩ (Nat.le_of_ble_eq_true rfl) dX6_known_79 (fun v8 H locs h hG => ?_)
        refine tw_rd hF hG (j := 6) (by decide) h dX6_known_82 (fun v9 h => ?_)
        have h := Option.some.inj h
        subst h
        exact g_iret hQ hG ⟨rfl, rfl, rfl⟩ (Nat.le_refl _) (Nat.le_refl _) dX6_known_83
      rcases gb_if h with ⟨c2, h⟩ | ⟨c2, h⟩
      · refine gb_tabIn hx hb dX6_known_38 c2 (by decide) (by decide) rfl (tgt := 84) (by decide) ?_
        refine lv_aload_n hx hb dX6_known_84 rfl (lv_at hl 0 rfl) ?_
        refine tw_getR hF hG 10 6 (by decide) q1843 rfl dX6_known_85 ?_
        refine lv_iload_n hx hb dX6_known_88 rfl (lv_at hl 1 rfl) ?_
        refine lv_bipush (v := 10) hx hb dX6_known_89 (by decide) ?_
        refine k_X6_at hF hL0 hG hl (Nat.le_of_ble_eq_true rfl) (Nat.le_of_ble_eq_true rfl) h ⟨Nat.le_of_ble_eq_true rfl, Nat.le_of_ble_eq_true rfl⟩ (Nat.le_of_ble_eq_true rfl) dX6_known_91 (fun v10 H locs h hG => ?_)
        refine tw_rd hF hG (j := 6) (by decide) h dX6_known_94 (fun v11 h => ?_)
        have h := Option.some.inj h
        subst h
        exact g_iret hQ hG ⟨rfl, rfl, rfl⟩ (Nat.le_refl _) (Nat.le_refl _) dX6_known_95
      rcases gb_if h with ⟨c3, h⟩ | ⟨c3, h⟩
      · refine gb_tabIn hx hb dX6_known_38 c3 (by decide) (by decide) rfl (tgt := 96) (by decide) ?_
        refine lv_aload_n hx hb dX6_known_96 rfl (lv_at hl 0 rfl) ?_
        refine lv_aload_n hx hb dX6_known_97 rfl (lv_at hl 0 rfl) ?_
        refine tw_getR hF hG 10 6 (by decide) q1843 rfl dX6_known_98 ?_
        refine lv_iload_n hx hb dX6_known_101 rfl (lv_at hl 1 rfl) ?_
        refine k_X6_expected hF hL0 hG hl (Nat.le_of_ble_eq_true rfl) (Nat.le_of_ble_eq_true rfl) (by decide) h ⟨Nat.le_of_ble_eq_true rfl, Nat.le_of_ble_eq_true rfl⟩ (Nat.le_of_ble_eq_true rfl) dX6_known_102 (fun v12 H locs h hG => ?_)
        have h := Option.some.inj h
        subst h
        exact g_iret hQ hG ⟨rfl, rfl, rfl⟩ (Nat.le_refl _) (Nat.le_refl _) dX6_known_105
      rcases gb_if h with ⟨c4, h⟩ | ⟨c4, h⟩
      · refine gb_tabIn hx hb dX6_known_38 c4 (by decide) (by decide) rfl (tgt := 106) (by decide) ?_
        refine lv_aload_n hx hb dX6_known_106 rfl (lv_at hl 0 rfl) ?_
        refine lv_aload_n hx hb dX6_known_107 rfl (lv_at hl 0 rfl) ?_
        refine tw_getR hF hG 10 6 (by decide) q1843 rfl dX6_known_108 ?_
        refine lv_iload_n hx hb dX6_known_111 rfl (lv_at hl 1 rfl) ?_
        refine k_X6_reserved hF hL0 hG hl (Nat.le_of_ble_eq_true rfl) (Nat.le_of_ble_eq_true rfl) (by decide) h ⟨Nat.le_of_ble_eq_true rfl, Nat.le_of_ble_eq_true rfl⟩ (Nat.le_of_ble_eq_true rfl) dX6_known_112 (fun v13 H locs h hG => ?_)
        have h := Option.some.inj h
        subst h
        exact g_iret hQ hG ⟨rfl, rfl, rfl⟩ (Nat.le_refl _) (Nat.le_refl _) dX6_known_115
      rcases gb_if h with ⟨c5, h⟩ | ⟨c5, h⟩
      · refine gb_tabIn hx hb dX6_known_38 c5 (by decide) (by decide) rfl (tgt := 116) (by decide) ?_
        refine lv_aload_n hx hb dX6_known_116 rfl (lv_at hl 0 rfl) ?_
        refine lv_aload_n hx hb dX6_known_117 rfl (lv_at hl 0 rfl) ?_
        refine tw_getR hF hG 10 6 (by decide) q1843 rfl dX6_known_118 ?_
        refine lv_iload_n hx hb dX6_known_121 rfl (lv_at hl 1 rfl) ?_
        refine k_X6_placeOf hF hL0 hG hl (Nat.le_of_ble_eq_true rfl) (Nat.le_of_ble_eq_true rfl) (by decide) h ⟨Nat.le_of_ble_eq_true rfl, Nat.le_of_ble_eq_true rfl⟩ (Nat.le_of_ble_eq_true rfl) dX6_known_122 (fun v14 H locs h hG => ?_)
        have h := Option.some.inj h
        subst h
        exact g_iret hQ hG ⟨rfl, rfl, rfl⟩ (Nat.le_refl _) (Nat.le_refl _) dX6_known_125
      refine lv_tableOut hx hb dX6_known_38 ?_ (tgt := 126) (by decide) ?_
      · have e1 := lv_neT c1 (a := 0) (by decide)
        have e2 := lv_neT c2 (a := 1) (by decide)
        have e3 := lv_neT c3 (a := 2) (by decide)
        have e4 := lv_neT c4 (a := 3) (by decide)
        have e5 := lv_neT c5 (a := 4) (by decide)
        omega
      refine lv_aload_n hx hb dX6_known_126 rfl (lv_at hl 0 rfl) ?_
      refine tw_getR hF hG 10 6 (by decide) q1843 rfl dX6_known_127 ?_
      refine lv_iload_n hx hb dX6_known_130 rfl (lv_at hl 1 rfl) ?_
      refine lv_bipush (v := 11) hx hb dX6_known_131 (by decide) ?_
      refine k_X6_at hF hL0 hG hl (Nat.le_of_ble_eq_true rfl) (Nat.le_of_ble_eq_true rfl) h ⟨Nat.le_of_ble_eq_true rfl, Nat.le_of_ble_eq_true rfl⟩ (Nat.le_of_ble_eq_true rfl) dX6_known_133 (fun v15 H locs h hG => ?_)
      refine tw_rd hF hG (j := 6) (by decide) h dX6_known_136 (fun v16 h => ?_)
      have h := Option.some.inj h
      subst h
      exact g_iret hQ hG ⟨rfl, rfl, rfl⟩ (Nat.le_refl _) (Nat.le_refl _) dX6_known_137
    · refine lv_iconst (v := 0) hx hb dX6_known_35 (by decide) ?_
      have h := Option.some.inj h
      subst h
      exact g_iret hQ hG ⟨rfl, rfl, rfl⟩ (Nat.le_refl _) (Nat.le_refl _) dX6_known_36
/-! needs -/
def t_X6_needs_L5 (p0 : Int32) (σ4 : TS) : Nat → Int32 → Int32 → Option (Int32)
  | 0, _, _ => none
  | n + 1, y6, y7 =>
    if (σ4.1 1) ≤ y7 then (
    some y6)
    else (
    ob1 (T_rd σ4 2 y7) fun (v8 : Int32) =>
    nm (y6 ||| (((v8 >>> (p0 &&& 31)) &&& 1) <<< (y7 &&& 31))) fun (x9 : Int32) =>
    nm (y7 + 1) fun (x10 : Int32) =>
    t_X6_needs_L5 p0 σ4 n x9 x10)
def t_X6_needs (σ : TS) (p0 : Int32) (p1 : Int32) : Option (Int32 × TS) :=
nm (T_sf σ 0 0) fun (σ1 : TS) =>
ob1 (t_X6_isOutlet σ1 p0) fun (v2 : Int32) =>
ob2 (t_X6_may σ1 v2 1) fun (v3 : Int32) (σ4 : TS) =>
if v3 = 0 then (
some (0, σ4))
else (
ob1 (
t_X6_needs_L5 p0 σ4 4096 0 0) fun (z11 : Int32) =>
if p1 = 0 then (
ob1 (T_rd σ4 2 p0) fun (v12 : Int32) =>
some (v12, σ4))
else (
some (z11, σ4)))
set_option maxRecDepth 100000 in
theorem w_X6_needs {l : Launch} {D : va_G} {dA : Nat → ClassId} {K : gKT} {L0 b sz : Nat} {G0 : GH} (hKo : gKo D clX (tyA dA) K) (hL0 : L0 ≤ b) (σ : TS) (p0 : Int32) (p1 : Int32)  {out : Int32 × TS} (h : t_X6_needs σ p0 p1 = some out) : gMet l yX6_needs (ws_ yX6_needs cX6_needs 5 (some .int)) D clX L0 K [.ref b, .int p0, .int p1] (twG dA b σ G0) sz 2 46 0 0 (twRI dA b out.2 G0 sz out.1) := by
  refine gMet.of (own := RX6) hKo (by decide +kernel) (Nat.le_of_ble_eq_true rfl) rfl ?_
  intro p e R s m args below meth c A Q ls H hF hQ hin hG hl
  have hx := hF.1.1
  have hb := hF.1.2.1
  have hts := hF.1.2.2.2.2
  have hl : lv_has ls 5 [(0, .ref b), (1, .int p0), (2, .int p1)] := hl
  unfold t_X6_needs at h
  refine lv_aload_n hx hb dX6_needs_0 rfl (lv_at hl 0 rfl) ?_
  refine lv_iconst (v := 0) hx hb dX6_needs_1 (by decide) ?_
  refine tw_putI hF hL0 hG 0 (by decide) q1833 rfl h dX6_needs_2 (fun σ1 H locs h hG => ?_)
  refine lv_aload_n hx hb dX6_needs_5 rfl (lv_at hl 0 rfl) ?_
  refine lv_aload_n hx hb dX6_needs_6 rfl (lv_at hl 0 rfl) ?_
  refine lv_iload_n hx hb dX6_needs_7 rfl (lv_at hl 1 rfl) ?_
  refine k_X6_isOutlet hF hL0 hG hl (Nat.le_of_ble_eq_true rfl) (Nat.le_of_ble_eq_true rfl) h ⟨Nat.le_of_ble_eq_true rfl, Nat.le_of_ble_eq_true rfl⟩ (Nat.le_of_ble_eq_true rfl) dX6_needs_8 (fun v2 H locs h hG => ?_)
  refine lv_iconst (v := 1) hx hb dX6_needs_11 (by decide) ?_
  refine k_X6_may hF hL0 hG hl (Nat.le_of_ble_eq_true rfl) (Nat.le_of_ble_eq_true rfl) h ⟨Nat.le_of_ble_eq_true rfl, Nat.le_of_ble_eq_true rfl⟩ (Nat.le_of_ble_eq_true rfl) dX6_needs_12 (fun v3 σ4 H locs h hG => ?_)
  refine gb_if_ne hx hb dX6_needs_15 (tgt := 20) (by decide) h (fun h => ?_) (fun h => ?_)
  · refine lv_iconst (v := 0) hx hb dX6_needs_20 (by decide) ?_
    refine lv_istore_n hx hb dX6_needs_21 rfl hl (Nat.le_of_ble_eq_true rfl) (lv' := [(3, .int 0), (0, .ref b), (1, .int p0), (2, .int p1)]) rfl (fun ls hl => ?_)
    refine lv_iconst (v := 0) hx hb dX6_needs_22 (by decide) ?_
    refine lv_istore hx hb dX6_needs_23 hl (Nat.le_of_ble_eq_true rfl) (lv' := [(4, .int 0), (3, .int 0), (0, .ref b), (1, .int p0), (2, .int p1)]) rfl (fun ls hl => ?_)
    obtain ⟨X1, h, hJ1⟩ := ob1_u h
    have J1 : ∀ (z11 : Int32), X1 = z11 → ∀ (H : Heap) (locs : List Loc) (ls : Array Slot), gJ D clX L0 A s.heap (twG dA b σ4 G0) sz H locs → lv_has ls 5 [(0, .ref b), (1, .int p0), (2, .int p1), (3, .int z11)] → W p l e R s m args below meth c H locs 0 0 Q (F0 m 57 ls []) := by
      intro z11 e0 H locs ls hG hl
      have h := hJ1 z11 e0
      refine lv_iload_n hx hb dX6_needs_57 rfl (lv_at hl 2 rfl) ?_
      refine gb_if_eq hx hb dX6_needs_58 (tgt := 65) (by decide) h (fun h => ?_) (fun h => ?_)
      · refine lv_aload_n hx hb dX6_needs_65 rfl (lv_at hl 0 rfl) ?_
        refine tw_getR hF hG 6 2 (by decide) q1839 rfl dX6_needs_66 ?_
        refine lv_iload_n hx hb dX6_needs_69 rfl (lv_at hl 1 rfl) ?_
        refine tw_rd hF hG (j := 2) (by decide) h dX6_needs_70 (fun v12 h => ?_)
        have h := Option.some.inj h
        subst h
        exact g_iret hQ hG ⟨rfl, rfl, rfl⟩ (Nat.le_refl _) (Nat.le_refl _) dX6_needs_71
      · refine lv_iload_n hx hb dX6_needs_61 rfl (lv_at hl 3 rfl) ?_
        refine lv_goto hx hb dX6_needs_62 (tgt := 71) (by decide) ?_
        have h := Option.some.inj h
        subst h
        exact g_iret hQ hG ⟨rfl, rfl, rfl⟩ (Nat.le_refl _) (Nat.le_refl _) dX6_needs_71
    have LL5 : ∀ (n : Nat) (y6 : Int32) (y7 : Int32), t_X6_needs_L5 p0 σ4 n y6 y7 = some X1 → ∀ (H : Heap) (locs : List Loc) (ls : Array Slot), gJ D clX L0 A s.heap (twG dA b σ4 G0) sz H locs → lv_has ls 5 [(0, .ref b), (1, .int p0), (2, .int p1), (3, .int y6), (4, .int y7)] → W p l e R s m args below meth c H locs 0 0 Q (F0 m 25 ls []) := by
      intro n
      induction n with
      | zero =>
        intro y6 y7 h
        rw [t_X6_needs_L5] at h
        cases h
      | succ n ihL5 =>
        intro y6 y7 h H locs ls hG hl
        rw [t_X6_needs_L5] at h
        refine lv_iload hx hb dX6_needs_25 (lv_at hl 4 rfl) ?_
        refine lv_aload_n hx hb dX6_needs_27 rfl (lv_at hl 0 rfl) ?_
        refine tw_getI hF hG 1 (by decide) q1834 rfl dX6_needs_28 ?_
        refine gb_icmp_ge hx hb dX6_needs_31 (tgt := 57) (by decide) h (fun h => ?_) (fun h => ?_)
        · exact J1 _ (Option.some.inj h).symm _ _ _ hG (lv_sub hl [0, 1, 2, 3] rfl)
        · refine lv_iload_n hx hb dX6_needs_34 rfl (lv_at hl 3 rfl) ?_
          refine lv_aload_n hx hb dX6_needs_35 rfl (lv_at hl 0 rfl) ?_
          refine tw_getR hF hG 6 2 (by decide) q1839 rfl dX6_needs_36 ?_
          refine lv_iload hx hb dX6_needs_39 (lv_at hl 4 rfl) ?_
          refine tw_rd hF hG (j := 2) (by decide) h dX6_needs_41 (fun v8 h => ?_)
          refine lv_iload_n hx hb dX6_needs_42 rfl (lv_at hl 1 rfl) ?_
          refine lv_ishr hx hb dX6_needs_43 ?_
          refine lv_iconst (v := 1) hx hb dX6_needs_44 (by decide) ?_
          refine lv_iand hx hb dX6_needs_45 ?_
          refine lv_iload hx hb dX6_needs_46 (lv_at hl 4 rfl) ?_
          refine lv_ishl hx hb dX6_needs_48 ?_
          refine lv_ior hx hb dX6_needs_49 ?_
          refine gb_nm h (fun x9 h => ?_)
          refine lv_istore_n hx hb dX6_needs_50 rfl hl (Nat.le_of_ble_eq_true rfl) (lv' := [(3, .int x9), (0, .ref b), (1, .int p0), (2, .int p1), (4, .int y7)]) rfl (fun ls hl => ?_)
          refine gb_iinc (k' := 1) hx hb dX6_needs_51 hl (k := 4) rfl (by decide) (Nat.le_of_ble_eq_true rfl) h (fun x10 ls h hl => ?_)
          have hl : lv_has ls 5 [(4, .int x10), (3, .int x9), (0, .ref b), (1, .int p0), (2, .int p1)] := hl
          refine lv_goto hx hb dX6_needs_54 (tgt := 25) (by decide) ?_
          exact ihL5 _ _ h _ _ _ hG (lv_sub hl [2, 3, 4, 1, 0] rfl)
    exact LL5 _ _ _ h _ _ _ hG (lv_sub hl [2, 3, 4, 1, 0] rfl)
  · refine lv_iconst (v := 0) hx hb dX6_needs_18 (by decide) ?_
    have h := Option.some.inj h
    subst h
    exact g_iret hQ hG ⟨rfl, rfl, rfl⟩ (Nat.le_refl _) (Nat.le_refl _) dX6_needs_19
/-! withState -/
def t_X6_withState_L1 (σ : TS) (p0 : Nat) (p1 : Int32) (p2 : Int32) : Nat → Int32 → Int32 → Option (Int32)
  | 0, _, _ => none
  | n + 1, y2, y3 =>
    if (σ.1 1) ≤ y3 then (
    some y2)
    else (
    ob1 (t_X6_at y3 p1) fun (v4 : Int32) =>
    ob1 (T_rd σ p0 v4) fun (v5 : Int32) =>
    ob1 (
    if v5 = p2 then (
    nm (y2 ||| (1 <<< (y3 &&& 31))) fun (x6 : Int32) =>
    some x6)
    else (
    some y2)) fun (z7 : Int32) =>
    nm (y3 + 1) fun (x8 : Int32) =>
    t_X6_withState_L1 σ p0 p1 p2 n z7 x8)
def t_X6_withState (σ : TS) (p0 : Nat) (p1 : Int32) (p2 : Int32) : Option (Int32) :=
ob1 (
t_X6_withState_L1 σ p0 p1 p2 4096 0 0) fun (z9 : Int32) =>
some z9
set_option maxRecDepth 100000 in
theorem w_X6_withState {l : Launch} {D : va_G} {dA : Nat → ClassId} {K : gKT} {L0 b sz : Nat} {G0 : GH} (hKo : gKo D clX (tyA dA) K) (hL0 : L0 ≤ b) (σ : TS) (p0 : Nat) (p1 : Int32) (p2 : Int32) (hj0 : twI p0) {out : Int32} (h : t_X6_withState σ p0 p1 p2 = some out) : gMet l yX6_withState (ws_ yX6_withState cX6_withState 6 (some .int)) D clX L0 K [.ref b, .ref (b + p0), .int p1, .int p2] (twG dA b σ G0) sz 1 21 0 0 (twRI dA b σ G0 sz out) := by
  refine gMet.of (own := RX6) hKo (by decide +kernel) (Nat.le_of_ble_eq_true rfl) rfl ?_
  intro p e R s m args below meth c A Q ls H hF hQ hin hG hl
  have hx := hF.1.1
  have hb := hF.1.2.1
  have hts := hF.1.2.2.2.2
  have hl : lv_has ls 6 [(0, .ref b), (1, .ref (b + p0)), (2, .int p1), (3, .int p2)] := hl
  unfold t_X6_withState at h
  refine lv_iconst (v := 0) hx hb dX6_withState_0 (by decide) ?_
  refine lv_istore hx hb dX6_withState_1 hl (Nat.le_of_ble_eq_true rfl) (lv' := [(4, .int 0), (0, .ref b), (1, .ref (b + p0)), (2, .int p1), (3, .int p2)]) rfl (fun ls hl => ?_)
  refine lv_iconst (v := 0) hx hb dX6_withState_3 (by decide) ?_
  refine lv_istore hx hb dX6_withState_4 hl (Nat.le_of_ble_eq_true rfl) (lv' := [(5, .int 0), (4, .int 0), (0, .ref b), (1, .ref (b + p0)), (2, .int p1), (3, .int p2)]) rfl (fun ls hl => ?_)
  obtain ⟨X1, h, hJ1⟩ := ob1_u h
  have J1 : ∀ (z9 : Int32), X1 = z9 → ∀ (H : Heap) (locs : List Loc) (ls : Array Slot), gJ D clX L0 A s.heap (twG dA b σ G0) sz H locs → lv_has ls 6 [(4, .int z9)] → W p l e R s m args below meth c H locs 0 0 Q (F0 m 42 ls []) := by
    intro z9 e0 H locs ls hG hl
    have h := hJ1 z9 e0
    refine lv_iload hx hb dX6_withState_42 (lv_at hl 0 rfl) ?_
    have h := Option.some.inj h
    subst h
    exact g_iret hQ hG ⟨rfl, rfl, rfl⟩ (Nat.le_refl _) (Nat.le_refl _) dX6_withState_44
  have LL1 : ∀ (n : Nat) (y2 : Int32) (y3 : Int32), t_X6_withState_L1 σ p0 p1 p2 n y2 y3 = some X1 → ∀ (H : Heap) (locs : List Loc) (ls : Array Slot), gJ D clX L0 A s.heap (twG dA b σ G0) sz H locs → lv_has ls 6 [(0, .ref b), (1, .ref (b + p0)), (2, .int p1), (3, .int p2), (4, .int y2), (5, .int y3)] → W p l e R s m args below meth c H locs 0 0 Q (F0 m 6 ls []) := by
    intro n
    induction n with
    | zero =>
      intro y2 y3 h
      rw [t_X6_withState_L1] at h
      cases h
    | succ n ihL1 =>
      intro y2 y3 h H locs ls hG hl
      rw [t_X6_withState_L1] at h
      refine lv_iload hx hb dX6_withState_6 (lv_at hl 5 rfl) ?_
      refine lv_aload_n hx hb dX6_withState_8 rfl (lv_at hl 0 rfl) ?_
      refine tw_getI hF hG 1 (by decide) q1834 rfl dX6_withState_9 ?_
      refine gb_icmp_ge hx hb dX6_withState_12 (tgt := 42) (by decide) h (fun h => ?_) (fun h => ?_)
      · exact J1 _ (Option.some.inj h).symm _ _ _ hG (lv_sub hl [4] rfl)
      · refine lv_aload_n hx hb dX6_withState_15 rfl (lv_at hl 1 rfl) ?_
        refine lv_iload hx hb dX6_withState_16 (lv_at hl 5 rfl) ?_
        refine lv_iload_n hx hb dX6_withState_18 rfl (lv_at hl 2 rfl) ?_
        refine k_X6_at hF hL0 hG hl (Nat.le_of_ble_eq_true rfl) (Nat.le_of_ble_eq_true rfl) h ⟨Nat.le_of_ble_eq_true rfl, Nat.le_of_ble_eq_true rfl⟩ (Nat.le_of_ble_eq_true rfl) dX6_withState_19 (fun v4 H locs h hG => ?_)
        refine tw_rd hF hG (j := p0) hj0 h dX6_withState_22 (fun v5 h => ?_)
        refine lv_iload_n hx hb dX6_withState_23 rfl (lv_at hl 3 rfl) ?_
        obtain ⟨X2, h, hJ2⟩ := ob1_u h
        have J2 : ∀ (z7 : Int32), X2 = z7 → ∀ (H : Heap) (locs : List Loc) (ls : Array Slot), gJ D clX L0 A s.heap (twG dA b σ G0) sz H locs → lv_has ls 6 [(0, .ref b), (1, .ref (b + p0)), (2, .int p1), (3, .int p2), (4, .int z7), (5, .int y3)] → W p l e R s m args below meth c H locs 0 0 Q (F0 m 36 ls []) := by
          intro z7 e0 H locs ls hG hl
          have h := hJ2 z7 e0
          refine gb_iinc (k' := 1) hx hb dX6_withState_36 hl (k := 5) rfl (by decide) (Nat.le_of_ble_eq_true rfl) h (fun x8 ls h hl => ?_)
          have hl : lv_has ls 6 [(5, .int x8), (0, .ref b), (1, .ref (b + p0)), (2, .int p1), (3, .int p2), (4, .int z7)] := hl
          refine lv_goto hx hb dX6_withState_39 (tgt := 6) (by decide) ?_
          exact ihL1 _ _ h _ _ _ hG (lv_sub hl [1, 2, 3, 4, 5, 0] rfl)
        refine gb_icmp_ne hx hb dX6_withState_24 (tgt := 36) (by decide) h (fun h => ?_) (fun h => ?_)
        · exact J2 _ (Option.some.inj h).symm _ _ _ hG hl
        · refine lv_iload hx hb dX6_withState_27 (lv_at hl 4 rfl) ?_
          refine lv_iconst (v := 1) hx hb dX6_withState_29 (by decide) ?_
          refine lv_iload hx hb dX6_withState_30 (lv_at hl 5 rfl) ?_
          refine lv_ishl hx hb dX6_withState_32 ?_
          refine lv_ior hx hb dX6_withState_33 ?_
          refine gb_nm h (fun x6 h => ?_)
          refine lv_istore hx hb dX6_withState_34 hl (Nat.le_of_ble_eq_true rfl) (lv' := [(4, .int x6), (0, .ref b), (1, .ref (b + p0)), (2, .int p1), (3, .int p2), (5, .int y3)]) rfl (fun ls hl => ?_)
          exact J2 _ (Option.some.inj h).symm _ _ _ hG (lv_sub hl [1, 2, 3, 4, 0, 5] rfl)
  exact LL1 _ _ _ h _ _ _ hG (lv_sub hl [2, 3, 4, 5, 1, 0] rfl)
theorem k_X6_withState (hF : gX p m c cc nL s args RX6 D clX (tyA dA) K A R rm) (hL0 : L0 ≤ b) (hG : gJ D clX L0 A s.heap (twG dA b σ G0) n H locs) (hl : lv_has ls nL lv) (h1 : 1 + 1 ≤ rm.frames) (h2 : 8 + (6 + 11) + 21 ≤ rm.locals) {p0 : Nat} {p1 : Int32} {p2 : Int32} (hj0 : twI p0) {γ : Type} {f : Int32 → Option γ} {o : γ} (h : ob1 (t_X6_withState σ p0 p1 p2) f = some o) (hc : cells ≤ rm.cells ∧ slots ≤ rm.slots) (hW : (rest.map fun v => v.category).sum ≤ 8) (hdg : decode cc pc = .ok (.invokevirtual 249, 3))
    (kk : ∀ (r : Int32) (H1 : Heap) (locs1 : List Loc), f r = some o → gJ D clX L0 A s.heap (twG dA b σ G0) n H1 locs1 → W p l e R s m args below meth c H1 locs1 cells slots Q (F0 m (pc + 3) ls (.int r :: rest))) : W p l e R s m args below meth c H locs cells slots Q (F0 m pc ls (.int p2 :: .int p1 :: .ref (b + p0) :: .ref b :: rest)) := by
  obtain ⟨r, hr, h⟩ := ob1_e h
  refine g_callV hF hG hl twG_obj (C := RX6) (T := TX6) (N := 35) rfl (w_X6_withState hF.2.2.1 hL0 σ p0 p1 p2 hj0 hr) (cwV 3 hF.1.2.2.2.2 (lw_V q2121 q2123 qs62 q108 q2124) rfl rfl rfl (by decide +kernel) (g_room hF h1 h2)) rfl rfl hW hdg ⟨by rw [hF.2.2.2.2]; exact hc.1, by rw [hF.2.2.2.2]; exact hc.2⟩ (fun v G1 n1 H1 locs1 hR hG1 => ?_)
  obtain ⟨rfl, rfl, rfl⟩ := hR
  exact kk r H1 locs1 h hG1
/-! outletsWith -/
def t_X6_outletsWith (σ : TS) (p0 : Int32) (p1 : Int32) : Option (Int32 × TS) :=
nm (T_sf σ 0 0) fun (σ1 : TS) =>
ob1 (t_X6_isIn (p0.toInt64) 0 3) fun (v2 : Int32) =>
ob2 (t_X6_may σ1 v2 1) fun (v3 : Int32) (σ4 : TS) =>
if v3 = 0 then (
some (0, σ4))
else (
ob1 (
if p1 = 0 then (
some (2 : Int32))
else (
some (9 : Int32))) fun (z5 : Int32) =>
ob1 (t_X6_withState σ4 6 z5 p0) fun (v6 : Int32) =>
some (v6, σ4))
set_option maxRecDepth 100000 in
theorem w_X6_outletsWith {l : Launch} {D : va_G} {dA : Nat → ClassId} {K : gKT} {L0 b sz : Nat} {G0 : GH} (hKo : gKo D clX (tyA dA) K) (hL0 : L0 ≤ b) (σ : TS) (p0 : Int32) (p1 : Int32)  {out : Int32 × TS} (h : t_X6_outletsWith σ p0 p1 = some out) : gMet l yX6_outletsWith (ws_ yX6_outletsWith cX6_outletsWith 3 (some .int)) D clX L0 K [.ref b, .int p0, .int p1] (twG dA b σ G0) sz 2 46 0 0 (twRI dA b out.2 G0 sz out.1) := by
  refine gMet.of (own := RX6) hKo (by decide +kernel) (Nat.le_of_ble_eq_true rfl) rfl ?_
  intro p e R s m args below meth c A Q ls H hF hQ hin hG hl
  have hx := hF.1.1
  have hb := hF.1.2.1
  have hts := hF.1.2.2.2.2
  have hl : lv_has ls 3 [(0, .ref b), (1, .int p0), (2, .int p1)] := hl
  unfold t_X6_outletsWith at h
  refine lv_aload_n hx hb dX6_outletsWith_0 rfl (lv_at hl 0 rfl) ?_
  refine lv_iconst (v := 0) hx hb dX6_outletsWith_1 (by decide) ?_
  refine tw_putI hF hL0 hG 0 (by decide) q1833 rfl h dX6_outletsWith_2 (fun σ1 H locs h hG => ?_)
  refine lv_aload_n hx hb dX6_outletsWith_5 rfl (lv_at hl 0 rfl) ?_
  refine lv_iload_n hx hb dX6_outletsWith_6 rfl (lv_at hl 1 rfl) ?_
  refine lv_i2l hx hb dX6_outletsWith_7 rfl ?_
  refine lv_lconst (v := 0) hx hb dX6_outletsWith_8 (by decide) ?_
  refine lv_ldc2 (v := 3) hx hb hF.1.2.2.2.1 (hts _ q2120) dX6_outletsWith_9 ?_
  refine k_X6_isIn hF hL0 hG hl (Nat.le_of_ble_eq_true rfl) (Nat.le_of_ble_eq_true rfl) h ⟨Nat.le_of_ble_eq_true rfl, Nat.le_of_ble_eq_true rfl⟩ (Nat.le_of_ble_eq_true rfl) dX6_outletsWith_12 (fun v2 H locs h hG => ?_)
  refine lv_iconst (v := 1) hx hb dX6_outletsWith_15 (by decide) ?_
  refine k_X6_may hF hL0 hG hl (Nat.le_of_ble_eq_true rfl) (Nat.le_of_ble_eq_true rfl) h ⟨Nat.le_of_ble_eq_true rfl, Nat.le_of_ble_eq_true rfl⟩ (Nat.le_of_ble_eq_true rfl) dX6_outletsWith_16 (fun v3 σ4 H locs h hG => ?_)
  refine gb_if_eq hx hb dX6_outletsWith_19 (tgt := 44) (by decide) h (fun h => ?_) (fun h => ?_)
  · refine lv_iconst (v := 0) hx hb dX6_outletsWith_44 (by decide) ?_
    have h := Option.some.inj h
    subst h
    exact g_iret hQ hG ⟨rfl, rfl, rfl⟩ (Nat.le_refl _) (Nat.le_refl _) dX6_outletsWith_45
  · refine lv_aload_n hx hb dX6_outletsWith_22 rfl (lv_at hl 0 rfl) ?_
    refine lv_aload_n hx hb dX6_outletsWith_23 rfl (lv_at hl 0 rfl) ?_
    refine tw_getR hF hG 10 6 (by decide) q1843 rfl dX6_outletsWith_24 ?_
    refine lv_iload_n hx hb dX6_outletsWith_27 rfl (lv_at hl 2 rfl) ?_
    obtain ⟨X1, h, hJ1⟩ := ob1_u h
    have J1 : ∀ (z5 : Int32), X1 = z5 → ∀ (H : Heap) (locs : List Loc) (ls : Array Slot), gJ D clX L0 A s.heap (twG dA b σ4 G0) sz H locs → lv_has ls 3 [(1, .int p0)] → W p l e R s m args below meth c H locs 0 0 Q (F0 m 37 ls [.int z5, .ref (b + 6), .ref b]) := by
      intro z5 e0 H locs ls hG hl
      have h := hJ1 z5 e0
      refine lv_iload_n hx hb dX6_outletsWith_37 rfl (lv_at hl 0 rfl) ?_
      refine k_X6_withState hF hL0 hG hl (Nat.le_of_ble_eq_true rfl) (Nat.le_of_ble_eq_true rfl) (by decide) h ⟨Nat.le_of_ble_eq_true rfl, Nat.le_of_ble_eq_true rfl⟩ (Nat.le_of_ble_eq_true rfl) dX6_outletsWith_38 (fun v6 H locs h hG => ?_)
      refine lv_goto hx hb dX6_outletsWith_41 (tgt := 45) (by decide) ?_
      have h := Option.some.inj h
      subst h
      exact g_iret hQ hG ⟨rfl, rfl, rfl⟩ (Nat.le_refl _) (Nat.le_refl _) dX6_outletsWith_45
    refine gb_if_eq hx hb dX6_outletsWith_28 (tgt := 36) (by decide) h (fun h => ?_) (fun h => ?_)
    · refine lv_iconst (v := 2) hx hb dX6_outletsWith_36 (by decide) ?_
      exact J1 _ (Option.some.inj h).symm _ _ _ hG (lv_sub hl [1] rfl)
    · refine lv_bipush (v := 9) hx hb dX6_outletsWith_31 (by decide) ?_
      refine lv_goto hx hb dX6_outletsWith_33 (tgt := 37) (by decide) ?_
      exact J1 _ (Option.some.inj h).symm _ _ _ hG (lv_sub hl [1] rfl)
/-! rightsOf -/
def t_X6_rightsOf_L4 (σ : TS) (p0 : Nat) : Nat → Int32 → Int32 → Option (Int32)
  | 0, _, _ => none
  | n + 1, y5, y6 =>
    if (σ.1 1) ≤ y6 then (
    some y5)
    else (
    ob1 (t_X6_at y6 1) fun (v7 : Int32) =>
    ob1 (T_rd σ p0 v7) fun (v8 : Int32) =>
    ob1 (
    if v8 = 1 then (
    ob1 (t_X6_inrush σ y6) fun (v9 : Int32) =>
    ob1 (T_rd σ p0 6) fun (v10 : Int32) =>
    if v10 < v9 then (
    some y5)
    else (
    ob1 (T_rd σ 2 y6) fun (v11 : Int32) =>
    if (v11 &&& (y5 ^^^ (-1))) = 0 then (
    nm (y5 ||| (1 <<< (y6 &&& 31))) fun (x12 : Int32) =>
    some x12)
    else (
    some y5)))
    else (
    some y5)) fun (z13 : Int32) =>
    nm (y6 + 1) fun (x14 : Int32) =>
    t_X6_rightsOf_L4 σ p0 n z13 x14)
def t_X6_rightsOf_L1 (σ : TS) (p0 : Nat) : Nat → Int32 → Int32 → Option (Int32)
  | 0, _, _ => none
  | n + 1, y2, y3 =>
    if (σ.1 1) ≤ y3 then (
    some y2)
    else (
    ob1 (
    t_X6_rightsOf_L4 σ p0 4096 y2 0) fun (z15 : Int32) =>
    nm (y3 + 1) fun (x16 : Int32) =>
    t_X6_rightsOf_L1 σ p0 n z15 x16)
def t_X6_rightsOf (σ : TS) (p0 : Nat) : Option (Int32) :=
ob1 (
t_X6_rightsOf_L1 σ p0 4096 0 0) fun (z17 : Int32) =>
some z17
set_option maxRecDepth 100000 in
theorem w_X6_rightsOf {l : Launch} {D : va_G} {dA : Nat → ClassId} {K : gKT} {L0 b sz : Nat} {G0 : GH} (hKo : gKo D clX (tyA dA) K) (hL0 : L0 ≤ b) (σ : TS) (p0 : Nat) (hj0 : twI p0) {out : Int32} (h : t_X6_rightsOf σ p0 = some out) : gMet l yX6_rightsOf (ws_ yX6_rightsOf cX6_rightsOf 5 (some .int)) D clX L0 K [.ref b, .ref (b + p0)] (twG dA b σ G0) sz 1 21 0 0 (twRI dA b σ G0 sz out) := by
  refine gMet.of (own := RX6) hKo (by decide +kernel) (Nat.le_of_ble_eq_true rfl) rfl ?_
  intro p e R s m args below meth c A Q ls H hF hQ hin hG hl
  have hx := hF.1.1
  have hb := hF.1.2.1
  have hts := hF.1.2.2.2.2
  have hl : lv_has ls 5 [(0, .ref b), (1, .ref (b + p0))] := hl
  unfold t_X6_rightsOf at h
  refine lv_iconst (v := 0) hx hb dX6_rightsOf_0 (by decide) ?_
  refine lv_istore_n hx hb dX6_rightsOf_1 rfl hl (Nat.le_of_ble_eq_true rfl) (lv' := [(2, .int 0), (0, .ref b), (1, .ref (b + p0))]) rfl (fun ls hl => ?_)
  refine lv_iconst (v := 0) hx hb dX6_rightsOf_2 (by decide) ?_
  refine lv_istore_n hx hb dX6_rightsOf_3 rfl hl (Nat.le_of_ble_eq_true rfl) (lv' := [(3, .int 0), (2, .int 0), (0, .ref b), (1, .ref (b + p0))]) rfl (fun ls hl => ?_)
  obtain ⟨X1, h, hJ1⟩ := ob1_u h
  have J1 : ∀ (z17 : Int32), X1 = z17 → ∀ (H : Heap) (locs : List Loc) (ls : Array Slot), gJ D clX L0 A s.heap (twG dA b σ G0) sz H locs → lv_has ls 5 [(2, .int z17)] → W p l e R s m args below meth c H locs 0 0 Q (F0 m 82 ls []) := by
    intro z17 e0 H locs ls hG hl
    have h := hJ1 z17 e0
    refine lv_iload_n hx hb dX6_rightsOf_82 rfl (lv_at hl 0 rfl) ?_
    have h := Option.some.inj h
    subst h
    exact g_iret hQ hG ⟨rfl, rfl, rfl⟩ (Nat.le_refl _) (Nat.le_refl _) dX6_rightsOf_83
  have LL1 : ∀ (n : Nat) (y2 : Int32) (y3 : Int32), t_X6_rightsOf_L1 σ p0 n y2 y3 = some X1 → ∀ (H : Heap) (locs : List Loc) (ls : Array Slot), gJ D clX L0 A s.heap (twG dA b σ G0) sz H locs → lv_has ls 5 [(0, .ref b), (1, .ref (b + p0)), (2, .int y2), (3, .int y3)] → W p l e R s m args below meth c H locs 0 0 Q (F0 m 4 ls []) := by
    intro n
    induction n with
    | zero =>
      intro y2 y3 h
      rw [t_X6_rightsOf_L1] at h
      cases h
    | succ n ihL1 =>
      intro y2 y3 h H locs ls hG hl
      rw [t_X6_rightsOf_L1] at h
      refine lv_iload_n hx hb dX6_rightsOf_4 rfl (lv_at hl 3 rfl) ?_
      refine lv_aload_n hx hb dX6_rightsOf_5 rfl (lv_at hl 0 rfl) ?_
      refine tw_getI hF hG 1 (by decide) q1834 rfl dX6_rightsOf_6 ?_
      refine gb_icmp_ge hx hb dX6_rightsOf_9 (tgt := 82) (by decide) h (fun h => ?_) (fun h => ?_)
      · exact J1 _ (Option.some.inj h).symm _ _ _ hG (lv_sub hl [2] rfl)
      · refine lv_iconst (v := 0) hx hb dX6_rightsOf_12 (by decide) ?_
        refine lv_istore hx hb dX6_rightsOf_13 hl (Nat.le_of_ble_eq_true rfl) (lv' := [(4, .int 0), (0, .ref b), (1, .ref (b + p0)), (2, .int y2), (3, .int y3)]) rfl (fun ls hl => ?_)
        obtain ⟨X2, h, hJ2⟩ := ob1_u h
        have J2 : ∀ (z15 : Int32), X2 = z15 → ∀ (H : Heap) (locs : List Loc) (ls : Array Slot), gJ D clX L0 A s.heap (twG dA b σ G0) sz H locs → lv_has ls 5 [(0, .ref b), (1, .ref (b + p0)), (2, .int z15), (3, .int y3)] → W p l e R s m args below meth c H locs 0 0 Q (F0 m 76 ls []) := by
          intro z15 e0 H locs ls hG hl
          have h := hJ2 z15 e0
          refine gb_iinc (k' := 1) hx hb dX6_rightsOf_76 hl (k := 3) rfl (by decide) (Nat.le_of_ble_eq_true rfl) h (fun x16 ls h hl => ?_)
          have hl : lv_has ls 5 [(3, .int x16), (0, .ref b), (1, .ref (b + p0)), (2, .int z15)] := hl
          refine lv_goto hx hb dX6_rightsOf_79 (tgt := 4) (by decide) ?_
          exact ihL1 _ _ h _ _ _ hG (lv_sub hl [1, 2, 3, 0] rfl)
        have LL4 : ∀ (n : Nat) (y5 : Int32) (y6 : Int32), t_X6_rightsOf_L4 σ p0 n y5 y6 = some X2 → ∀ (H : Heap) (locs : List Loc) (ls : Array Slot), gJ D clX L0 A s.heap (twG dA b σ G0) sz H locs → lv_has ls 5 [(0, .ref b), (1, .ref (b + p0)), (2, .int y5), (3, .int y3), (4, .int y6)] → W p l e R s m args below meth c H locs 0 0 Q (F0 m 15 ls []) := by
          intro n
          induction n with
          | zero =>
            intro y5 y6 h
            rw [t_X6_rightsOf_L4] at h
            cases h
          | succ n ihL4 =>
            intro y5 y6 h H locs ls hG hl
            rw [t_X6_rightsOf_L4] at h
            refine lv_iload hx hb dX6_rightsOf_15 (lv_at hl 4 rfl) ?_
            refine lv_aload_n hx hb dX6_rightsOf_17 rfl (lv_at hl 0 rfl) ?_
            refine tw_getI hF hG 1 (by decide) q1834 rfl dX6_rightsOf_18 ?_
            refine gb_icmp_ge hx hb dX6_rightsOf_21 (tgt := 76) (by decide) h (fun h => ?_) (fun h => ?_)
            · exact J2 _ (Option.some.inj h).symm _ _ _ hG (lv_sub hl [0, 1, 2, 3] rfl)
            · refine lv_aload_n hx hb dX6_rightsOf_24 rfl (lv_at hl 1 rfl) ?_
              refine lv_iload hx hb dX6_rightsOf_25 (lv_at hl 4 rfl) ?_
              refine lv_iconst (v := 1) hx hb dX6_rightsOf_27 (by decide) ?_
              refine k_X6_at hF hL0 hG hl (Nat.le_of_ble_eq_true rfl) (Nat.le_of_ble_eq_true rfl) h ⟨Nat.le_of_ble_eq_true rfl, Nat.le_of_ble_eq_true rfl⟩ (Nat.le_of_ble_eq_true rfl) dX6_rightsOf_28 (fun v7 H locs h hG => ?_)
              refine tw_rd hF hG (j := p0) hj0 h dX6_rightsOf_31 (fun v8 h => ?_)
              refine lv_iconst (v := 1) hx hb dX6_rightsOf_32 (by decide) ?_
              obtain ⟨X3, h, hJ3⟩ := ob1_u h
              have J3 : ∀ (z13 : Int32), X3 = z13 → ∀ (H : Heap) (locs : List Loc) (ls : Array Slot), gJ D clX L0 A s.heap (twG dA b σ G0) sz H locs → lv_has ls 5 [(0, .ref b), (1, .ref (b + p0)), (2, .int z13), (3, .int y3), (4, .int y6)] → W p l e R s m args below meth c H locs 0 0 Q (F0 m 70 ls []) := by
                intro z13 e0 H locs ls hG hl
                have h := hJ3 z13 e0
                refine gb_iinc (k' := 1) hx hb dX6_rightsOf_70 hl (k := 4) rfl (by decide) (Nat.le_of_ble_eq_true rfl) h (fun x14 ls h hl => ?_)
                have hl : lv_has ls 5 [(4, .int x14), (0, .ref b), (1, .ref (b + p0)), (2, .int z13), (3, .int y3)] := hl
                refine lv_goto hx hb dX6_rightsOf_73 (tgt := 15) (by decide) ?_
                exact ihL4 _ _ h _ _ _ hG (lv_sub hl [1, 2, 3, 4, 0] rfl)
              refine gb_icmp_ne hx hb dX6_rightsOf_33 (tgt := 70) (by decide) h (fun h => ?_) (fun h => ?_)
              · exact J3 _ (Option.some.inj h).symm _ _ _ hG hl
              · refine lv_aload_n hx hb dX6_rightsOf_36 rfl (lv_at hl 0 rfl) ?_
                refine lv_iload hx hb dX6_rightsOf_37 (lv_at hl 4 rfl) ?_
                refine k_X6_inrush hF hL0 hG hl (Nat.le_of_ble_eq_true rfl) (Nat.le_of_ble_eq_true rfl) h ⟨Nat.le_of_ble_eq_true rfl, Nat.le_of_ble_eq_true rfl⟩ (Nat.le_of_ble_eq_true rfl) dX6_rightsOf_39 (fun v9 H locs h hG => ?_)
                refine lv_aload_n hx hb dX6_rightsOf_42 rfl (lv_at hl 1 rfl) ?_
                refine lv_bipush (v := 6) hx hb dX6_rightsOf_43 (by decide) ?_
                refine tw_rd hF hG (j := p0) hj0 h dX6_rightsOf_45 (fun v10 h => ?_)
                refine gb_icmp_gt hx hb dX6_rightsOf_46 (tgt := 70) (by decide) h (fun h => ?_) (fun h => ?_)
                · exact J3 _ (Option.some.inj h).symm _ _ _ hG hl
                · refine lv_aload_n hx hb dX6_rightsOf_49 rfl (lv_at hl 0 rfl) ?_
                  refine tw_getR hF hG 6 2 (by decide) q1839 rfl dX6_rightsOf_50 ?_
                  refine lv_iload hx hb dX6_rightsOf_53 (lv_at hl 4 rfl) ?_
                  refine tw_rd hF hG (j := 2) (by decide) h dX6_rightsOf_55 (fun v11 h => ?_)
                  refine lv_iload_n hx hb dX6_rightsOf_56 rfl (lv_at hl 2 rfl) ?_
                  refine lv_iconst (v := (-1)) hx hb dX6_rightsOf_57 (by decide) ?_
                  refine lv_ixor hx hb dX6_rightsOf_58 ?_
                  refine lv_iand hx hb dX6_rightsOf_59 ?_
                  refine gb_if_ne hx hb dX6_rightsOf_60 (tgt := 70) (by decide) h (fun h => ?_) (fun h => ?_)
                  · exact J3 _ (Option.some.inj h).symm _ _ _ hG hl
                  · refine lv_iload_n hx hb dX6_rightsOf_63 rfl (lv_at hl 2 rfl) ?_
                    refine lv_iconst (v := 1) hx hb dX6_rightsOf_64 (by decide) ?_
                    refine lv_iload hx hb dX6_rightsOf_65 (lv_at hl 4 rfl) ?_
                    refine lv_ishl hx hb dX6_rightsOf_67 ?_
                    refine lv_ior hx hb dX6_rightsOf_68 ?_
                    refine gb_nm h (fun x12 h => ?_)
                    refine lv_istore_n hx hb dX6_rightsOf_69 rfl hl (Nat.le_of_ble_eq_true rfl) (lv' := [(2, .int x12), (0, .ref b), (1, .ref (b + p0)), (3, .int y3), (4, .int y6)]) rfl (fun ls hl => ?_)
                    exact J3 _ (Option.some.inj h).symm _ _ _ hG (lv_sub hl [1, 2, 0, 3, 4] rfl)
        exact LL4 _ _ _ h _ _ _ hG (lv_sub hl [1, 2, 3, 4, 0] rfl)
  exact LL1 _ _ _ h _ _ _ hG (lv_sub hl [2, 3, 1, 0] rfl)
theorem k_X6_rightsOf (hF : gX p m c cc nL s args RX6 D clX (tyA dA) K A R rm) (hL0 : L0 ≤ b) (hG : gJ D clX L0 A s.heap (twG dA b σ G0) n H locs) (hl : lv_has ls nL lv) (h1 : 1 + 1 ≤ rm.frames) (h2 : 8 + (5 + 11) + 21 ≤ rm.locals) {p0 : Nat} (hj0 : twI p0) {γ : Type} {f : Int32 → Option γ} {o : γ} (h : ob1 (t_X6_rightsOf σ p0) f = some o) (hc : cells ≤ rm.cells ∧ slots ≤ rm.slots) (hW : (rest.map fun v => v.category).sum ≤ 8) (hdg : decode cc pc = .ok (.invokevirtual 245, 3))
    (kk : ∀ (r : Int32) (H1 : Heap) (locs1 : List Loc), f r = some o → gJ D clX L0 A s.heap (twG dA b σ G0) n H1 locs1 → W p l e R s m args below meth c H1 locs1 cells slots Q (F0 m (pc + 3) ls (.int r :: rest))) : W p l e R s m args below meth c H locs cells slots Q (F0 m pc ls (.ref (b + p0) :: .ref b :: rest)) := by
  obtain ⟨r, hr, h⟩ := ob1_e h
  refine g_callV hF hG hl twG_obj (C := RX6) (T := TX6) (N := 35) rfl (w_X6_rightsOf hF.2.2.1 hL0 σ p0 hj0 hr) (cwV 1 hF.1.2.2.2.2 (lw_V q2129 q2131 qs63 q108 q2132) rfl rfl rfl (by decide +kernel) (g_room hF h1 h2)) rfl rfl hW hdg ⟨by rw [hF.2.2.2.2]; exact hc.1, by rw [hF.2.2.2.2]; exact hc.2⟩ (fun v G1 n1 H1 locs1 hR hG1 => ?_)
  obtain ⟨rfl, rfl, rfl⟩ := hR
  exact kk r H1 locs1 h hG1
/-! rights -/
def t_X6_rights (σ : TS) : Option (Int32 × TS) :=
nm (T_sf σ 0 0) fun (σ1 : TS) =>
ob1 (t_X6_rightsOf σ1 6) fun (v2 : Int32) =>
some (v2, σ1)
set_option maxRecDepth 100000 in
theorem w_X6_rights {l : Launch} {D : va_G} {dA : Nat → ClassId} {K : gKT} {L0 b sz : Nat} {G0 : GH} (hKo : gKo D clX (tyA dA) K) (hL0 : L0 ≤ b) (σ : TS)  {out : Int32 × TS} (h : t_X6_rights σ = some out) : gMet l yX6_rights (ws_ yX6_rights cX6_rights 1 (some .int)) D clX L0 K [.ref b] (twG dA b σ G0) sz 2 45 0 0 (twRI dA b out.2 G0 sz out.1) := by
  refine gMet.of (own := RX6) hKo (by decide +kernel) (Nat.le_of_ble_eq_true rfl) rfl ?_
  intro p e R s m args below meth c A Q ls H hF hQ hin hG hl
  have hx := hF.1.1
  have hb := hF.1.2.1
  have hts := hF.1.2.2.2.2
  have hl : lv_has ls 1 [(0, .ref b)] := hl
  unfold t_X6_rights at h
  refine lv_aload_n hx hb dX6_rights_0 rfl (lv_at hl 0 rfl) ?_
  refine lv_iconst (v := 0) hx hb dX6_rights_1 (by decide) ?_
  refine tw_putI hF hL0 hG 0 (by decide) q1833 rfl h dX6_rights_2 (fun σ1 H locs h hG => ?_)
  refine lv_aload_n hx hb dX6_rights_5 rfl (lv_at hl 0 rfl) ?_
  refine lv_aload_n hx hb dX6_rights_6 rfl (lv_at hl 0 rfl) ?_
  refine tw_getR hF hG 10 6 (by decide) q1843 rfl dX6_rights_7 ?_
  refine k_X6_rightsOf hF hL0 hG hl (Nat.le_of_ble_eq_true rfl) (Nat.le_of_ble_eq_true rfl) (by decide) h ⟨Nat.le_of_ble_eq_true rfl, Nat.le_of_ble_eq_true rfl⟩ (Nat.le_of_ble_eq_true rfl) dX6_rights_10 (fun v2 H locs h hG => ?_)
  have h := Option.some.inj h
  subst h
  exact g_iret hQ hG ⟨rfl, rfl, rfl⟩ (Nat.le_refl _) (Nat.le_refl _) dX6_rights_13
/-! draw -/
def t_X6_draw (σ : TS) (p0 : Nat) (p1 : Int32) : Option (Int32) :=
ob1 (t_X6_at p1 2) fun (v1 : Int32) =>
ob1 (T_rd σ p0 v1) fun (v2 : Int32) =>
if v2 = 2 then (
ob1 (t_X6_peak σ p1) fun (v4 : Int32) =>
some v4)
else (
if v2 = 3 then (
ob1 (t_X6_steady σ p1) fun (v3 : Int32) =>
some v3)
else (
some 0))
set_option maxRecDepth 100000 in
theorem w_X6_draw {l : Launch} {D : va_G} {dA : Nat → ClassId} {K : gKT} {L0 b sz : Nat} {G0 : GH} (hKo : gKo D clX (tyA dA) K) (hL0 : L0 ≤ b) (σ : TS) (p0 : Nat) (p1 : Int32) (hj0 : twI p0) {out : Int32} (h : t_X6_draw σ p0 p1 = some out) : gMet l yX6_draw (ws_ yX6_draw cX6_draw 4 (some .int)) D clX L0 K [.ref b, .ref (b + p0), .int p1] (twG dA b σ G0) sz 1 21 0 0 (twRI dA b σ G0 sz out) := by
  refine gMet.of (own := RX6) hKo (by decide +kernel) (Nat.le_of_ble_eq_true rfl) rfl ?_
  intro p e R s m args below meth c A Q ls H hF hQ hin hG hl
  have hx := hF.1.1
  have hb := hF.1.2.1
  have hts := hF.1.2.2.2.2
  have hl : lv_has ls 4 [(0, .ref b), (1, .ref (b + p0)), (2, .int p1)] := hl
  unfold t_X6_draw at h
  refine lv_aload_n hx hb dX6_draw_0 rfl (lv_at hl 1 rfl) ?_
  refine lv_iload_n hx hb dX6_draw_1 rfl (lv_at hl 2 rfl) ?_
  refine lv_iconst (v := 2) hx hb dX6_draw_2 (by decide) ?_
  refine k_X6_at hF hL0 hG hl (Nat.le_of_ble_eq_true rfl) (Nat.le_of_ble_eq_true rfl) h ⟨Nat.le_of_ble_eq_true rfl, Nat.le_of_ble_eq_true rfl⟩ (Nat.le_of_ble_eq_true rfl) dX6_draw_3 (fun v1 H locs h hG => ?_)
  refine tw_rd hF hG (j := p0) hj0 h dX6_draw_6 (fun v2 h => ?_)
  refine lv_istore_n hx hb dX6_draw_7 rfl hl (Nat.le_of_ble_eq_true rfl) (lv' := [(3, .int v2), (0, .ref b), (1, .ref (b + p0)), (2, .int p1)]) rfl (fun ls hl => ?_)
  refine lv_iload_n hx hb dX6_draw_8 rfl (lv_at hl 0 rfl) ?_
  refine lv_iconst (v := 2) hx hb dX6_draw_9 (by decide) ?_
  refine gb_icmp_ne hx hb dX6_draw_10 (tgt := 21) (by decide) h (fun h => ?_) (fun h => ?_)
  · refine lv_iload_n hx hb dX6_draw_21 rfl (lv_at hl 0 rfl) ?_
    refine lv_iconst (v := 3) hx hb dX6_draw_22 (by decide) ?_
    refine gb_icmp_ne hx hb dX6_draw_23 (tgt := 34) (by decide) h (fun h => ?_) (fun h => ?_)
    · refine lv_iconst (v := 0) hx hb dX6_draw_34 (by decide) ?_
      have h := Option.some.inj h
      subst h
      exact g_iret hQ hG ⟨rfl, rfl, rfl⟩ (Nat.le_refl _) (Nat.le_refl _) dX6_draw_35
    · refine lv_aload_n hx hb dX6_draw_26 rfl (lv_at hl 1 rfl) ?_
      refine lv_iload_n hx hb dX6_draw_27 rfl (lv_at hl 3 rfl) ?_
      refine k_X6_steady hF hL0 hG hl (Nat.le_of_ble_eq_true rfl) (Nat.le_of_ble_eq_true rfl) h ⟨Nat.le_of_ble_eq_true rfl, Nat.le_of_ble_eq_true rfl⟩ (Nat.le_of_ble_eq_true rfl) dX6_draw_28 (fun v3 H locs h hG => ?_)
      refine lv_goto hx hb dX6_draw_31 (tgt := 35) (by decide) ?_
      have h := Option.some.inj h
      subst h
      exact g_iret hQ hG ⟨rfl, rfl, rfl⟩ (Nat.le_refl _) (Nat.le_refl _) dX6_draw_35
  · refine lv_aload_n hx hb dX6_draw_13 rfl (lv_at hl 1 rfl) ?_
    refine lv_iload_n hx hb dX6_draw_14 rfl (lv_at hl 3 rfl) ?_
    refine k_X6_peak hF hL0 hG hl (Nat.le_of_ble_eq_true rfl) (Nat.le_of_ble_eq_true rfl) h ⟨Nat.le_of_ble_eq_true rfl, Nat.le_of_ble_eq_true rfl⟩ (Nat.le_of_ble_eq_true rfl) dX6_draw_15 (fun v4 H locs h hG => ?_)
    refine lv_goto hx hb dX6_draw_18 (tgt := 35) (by decide) ?_
    have h := Option.some.inj h
    subst h
    exact g_iret hQ hG ⟨rfl, rfl, rfl⟩ (Nat.le_refl _) (Nat.le_refl _) dX6_draw_35
theorem k_X6_draw (hF : gX p m c cc nL s args RX6 D clX (tyA dA) K A R rm) (hL0 : L0 ≤ b) (hG : gJ D clX L0 A s.heap (twG dA b σ G0) n H locs) (hl : lv_has ls nL lv) (h1 : 1 + 1 ≤ rm.frames) (h2 : 8 + (4 + 11) + 21 ≤ rm.locals) {p0 : Nat} {p1 : Int32} (hj0 : twI p0) {γ : Type} {f : Int32 → Option γ} {o : γ} (h : ob1 (t_X6_draw σ p0 p1) f = some o) (hc : cells ≤ rm.cells ∧ slots ≤ rm.slots) (hW : (rest.map fun v => v.category).sum ≤ 8) (hdg : decode cc pc = .ok (.invokevirtual 228, 3))
    (kk : ∀ (r : Int32) (H1 : Heap) (locs1 : List Loc), f r = some o → gJ D clX L0 A s.heap (twG dA b σ G0) n H1 locs1 → W p l e R s m args below meth c H1 locs1 cells slots Q (F0 m (pc + 3) ls (.int r :: rest))) : W p l e R s m args below meth c H locs cells slots Q (F0 m pc ls (.int p1 :: .ref (b + p0) :: .ref b :: rest)) := by
  obtain ⟨r, hr, h⟩ := ob1_e h
  refine g_callV hF hG hl twG_obj (C := RX6) (T := TX6) (N := 35) rfl (w_X6_draw hF.2.2.1 hL0 σ p0 p1 hj0 hr) (cwV 2 hF.1.2.2.2.2 (lw_V q2142 q2144 qs65 q108 q2145) rfl rfl rfl (by decide +kernel) (g_room hF h1 h2)) rfl rfl hW hdg ⟨by rw [hF.2.2.2.2]; exact hc.1, by rw [hF.2.2.2.2]; exact hc.2⟩ (fun v G1 n1 H1 locs1 hR hG1 => ?_)
  obtain ⟨rfl, rfl, rfl⟩ := hR
  exact kk r H1 locs1 h hG1
/-! drawn -/
def t_X6_drawn_L1 (σ : TS) (p0 : Nat) : Nat → Int32 → Int32 → Option (Int32)
  | 0, _, _ => none
  | n + 1, y2, y3 =>
    if (σ.1 1) ≤ y3 then (
    some y2)
    else (
    ob1 (t_X6_draw σ p0 y3) fun (v4 : Int32) =>
    nm (y2 + v4) fun (x5 : Int32) =>
    nm (y3 + 1) fun (x6 : Int32) =>
    t_X6_drawn_L1 σ p0 n x5 x6)
def t_X6_drawn (σ : TS) (p0 : Nat) : Option (Int32) :=
ob1 (
t_X6_drawn_L1 σ p0 4096 0 0) fun (z7 : Int32) =>
some z7
set_option maxRecDepth 100000 in
theorem w_X6_drawn {l : Launch} {D : va_G} {dA : Nat → ClassId} {K : gKT} {L0 b sz : Nat} {G0 : GH} (hKo : gKo D clX (tyA dA) K) (hL0 : L0 ≤ b) (σ : TS) (p0 : Nat) (hj0 : twI p0) {out : Int32} (h : t_X6_drawn σ p0 = some out) : gMet l yX6_drawn (ws_ yX6_drawn cX6_drawn 4 (some .int)) D clX L0 K [.ref b, .ref (b + p0)] (twG dA b σ G0) sz 2 44 0 0 (twRI dA b σ G0 sz out) := by
  refine gMet.of (own := RX6) hKo (by decide +kernel) (Nat.le_of_ble_eq_true rfl) rfl ?_
  intro p e R s m args below meth c A Q ls H hF hQ hin hG hl
  have hx := hF.1.1
  have hb := hF.1.2.1
  have hts := hF.1.2.2.2.2
  have hl : lv_has ls 4 [(0, .ref b), (1, .ref (b + p0))] := hl
  unfold t_X6_drawn at h
  refine lv_iconst (v := 0) hx hb dX6_drawn_0 (by decide) ?_
  refine lv_istore_n hx hb dX6_drawn_1 rfl hl (Nat.le_of_ble_eq_true rfl) (lv' := [(2, .int 0), (0, .ref b), (1, .ref (b + p0))]) rfl (fun ls hl => ?_)
  refine lv_iconst (v := 0) hx hb dX6_drawn_2 (by decide) ?_
  refine lv_istore_n hx hb dX6_drawn_3 rfl hl (Nat.le_of_ble_eq_true rfl) (lv' := [(3, .int 0), (2, .int 0), (0, .ref b), (1, .ref (b + p0))]) rfl (fun ls hl => ?_)
  obtain ⟨X1, h, hJ1⟩ := ob1_u h
  have J1 : ∀ (z7 : Int32), X1 = z7 → ∀ (H : Heap) (locs : List Loc) (ls : Array Slot), gJ D clX L0 A s.heap (twG dA b σ G0) sz H locs → lv_has ls 4 [(2, .int z7)] → W p l e R s m args below meth c H locs 0 0 Q (F0 m 27 ls []) := by
    intro z7 e0 H locs ls hG hl
    have h := hJ1 z7 e0
    refine lv_iload_n hx hb dX6_drawn_27 rfl (lv_at hl 0 rfl) ?_
    have h := Option.some.inj h
    subst h
    exact g_iret hQ hG ⟨rfl, rfl, rfl⟩ (Nat.le_refl _) (Nat.le_refl _) dX6_drawn_28
  have LL1 : ∀ (n : Nat) (y2 : Int32) (y3 : Int32), t_X6_drawn_L1 σ p0 n y2 y3 = some X1 → ∀ (H : Heap) (locs : List Loc) (ls : Array Slot), gJ D clX L0 A s.heap (twG dA b σ G0) sz H locs → lv_has ls 4 [(0, .ref b), (1, .ref (b + p0)), (2, .int y2), (3, .int y3)] → W p l e R s m args below meth c H locs 0 0 Q (F0 m 4 ls []) := by
    intro n
    induction n with
    | zero =>
      intro y2 y3 h
      rw [t_X6_drawn_L1] at h
      cases h
    | succ n ihL1 =>
      intro y2 y3 h H locs ls hG hl
      rw [t_X6_drawn_L1] at h
      refine lv_iload_n hx hb dX6_drawn_4 rfl (lv_at hl 3 rfl) ?_
      refine lv_aload_n hx hb dX6_drawn_5 rfl (lv_at hl 0 rfl) ?_
      refine tw_getI hF hG 1 (by decide) q1834 rfl dX6_drawn_6 ?_
      refine gb_icmp_ge hx hb dX6_drawn_9 (tgt := 27) (by decide) h (fun h => ?_) (fun h => ?_)
      · exact J1 _ (Option.some.inj h).symm _ _ _ hG (lv_sub hl [2] rfl)
      · refine lv_iload_n hx hb dX6_drawn_12 rfl (lv_at hl 2 rfl) ?_
        refine lv_aload_n hx hb dX6_drawn_13 rfl (lv_at hl 0 rfl) ?_
        refine lv_aload_n hx hb dX6_drawn_14 rfl (lv_at hl 1 rfl) ?_
        refine lv_iload_n hx hb dX6_drawn_15 rfl (lv_at hl 3 rfl) ?_
        refine k_X6_draw hF hL0 hG hl (Nat.le_of_ble_eq_true rfl) (Nat.le_of_ble_eq_true rfl) hj0 h ⟨Nat.le_of_ble_eq_true rfl, Nat.le_of_ble_eq_true rfl⟩ (Nat.le_of_ble_eq_true rfl) dX6_drawn_16 (fun v4 H locs h hG => ?_)
        refine lv_iadd hx hb dX6_drawn_19 ?_
        refine gb_nm h (fun x5 h => ?_)
        refine lv_istore_n hx hb dX6_drawn_20 rfl hl (Nat.le_of_ble_eq_true rfl) (lv' := [(2, .int x5), (0, .ref b), (1, .ref (b + p0)), (3, .int y3)]) rfl (fun ls hl => ?_)
        refine gb_iinc (k' := 1) hx hb dX6_drawn_21 hl (k := 3) rfl (by decide) (Nat.le_of_ble_eq_true rfl) h (fun x6 ls h hl => ?_)
        have hl : lv_has ls 4 [(3, .int x6), (2, .int x5), (0, .ref b), (1, .ref (b + p0))] := hl
        refine lv_goto hx hb dX6_drawn_24 (tgt := 4) (by decide) ?_
        exact ihL1 _ _ h _ _ _ hG (lv_sub hl [2, 3, 1, 0] rfl)
  exact LL1 _ _ _ h _ _ _ hG (lv_sub hl [2, 3, 1, 0] rfl)
theorem k_X6_drawn (hF : gX p m c cc nL s args RX6 D clX (tyA dA) K A R rm) (hL0 : L0 ≤ b) (hG : gJ D clX L0 A s.heap (twG dA b σ G0) n H locs) (hl : lv_has ls nL lv) (h1 : 2 + 1 ≤ rm.frames) (h2 : 8 + (4 + 11) + 44 ≤ rm.locals) {p0 : Nat} (hj0 : twI p0) {γ : Type} {f : Int32 → Option γ} {o : γ} (h : ob1 (t_X6_drawn σ p0) f = some o) (hc : cells ≤ rm.cells ∧ slots ≤ rm.slots) (hW : (rest.map fun v => v.category).sum ≤ 8) (hdg : decode cc pc = .ok (.invokevirtual 296, 3))
    (kk : ∀ (r : Int32) (H1 : Heap) (locs1 : List Loc), f r = some o → gJ D clX L0 A s.heap (twG dA b σ G0) n H1 locs1 → W p l e R s m args below meth c H1 locs1 cells slots Q (F0 m (pc + 3) ls (.int r :: rest))) : W p l e R s m args below meth c H locs cells slots Q (F0 m pc ls (.ref (b + p0) :: .ref b :: rest)) := by
  obtain ⟨r, hr, h⟩ := ob1_e h
  refine g_callV hF hG hl twG_obj (C := RX6) (T := TX6) (N := 35) rfl (w_X6_drawn hF.2.2.1 hL0 σ p0 hj0 hr) (cwV 1 hF.1.2.2.2.2 (lw_V q2138 q2140 qs64 q108 q2141) rfl rfl rfl (by decide +kernel) (g_room hF h1 h2)) rfl rfl hW hdg ⟨by rw [hF.2.2.2.2]; exact hc.1, by rw [hF.2.2.2.2]; exact hc.2⟩ (fun v G1 n1 H1 locs1 hR hG1 => ?_)
  obtain ⟨rfl, rfl, rfl⟩ := hR
  exact kk r H1 locs1 h hG1
/-! reservedAll -/
def t_X6_reservedAll_L1 (σ : TS) (p0 : Nat) : Nat → Int32 → Int32 → Option (Int32)
  | 0, _, _ => none
  | n + 1, y2, y3 =>
    if (σ.1 1) ≤ y3 then (
    some y2)
    else (
    ob1 (t_X6_reserved σ p0 y3) fun (v4 : Int32) =>
    nm (y2 + v4) fun (x5 : Int32) =>
    nm (y3 + 1) fun (x6 : Int32) =>
    t_X6_reservedAll_L1 σ p0 n x5 x6)
def t_X6_reservedAll (σ : TS) (p0 : Nat) : Option (Int32) :=
ob1 (
t_X6_reservedAll_L1 σ p0 4096 0 0) fun (z7 : Int32) =>
some z7
set_option maxRecDepth 100000 in
theorem w_X6_reservedAll {l : Launch} {D : va_G} {dA : Nat → ClassId} {K : gKT} {L0 b sz : Nat} {G0 : GH} (hKo : gKo D clX (tyA dA) K) (hL0 : L0 ≤ b) (σ : TS) (p0 : Nat) (hj0 : twI p0) {out : Int32} (h : t_X6_reservedAll σ p0 = some out) : gMet l yX6_reservedAll (ws_ yX6_reservedAll cX6_reservedAll 4 (some .int)) D clX L0 K [.ref b, .ref (b + p0)] (twG dA b σ G0) sz 3 66 0 0 (twRI dA b σ G0 sz out) := by
  refine gMet.of (own := RX6) hKo (by decide +kernel) (Nat.le_of_ble_eq_true rfl) rfl ?_
  intro p e R s m args below meth c A Q ls H hF hQ hin hG hl
  have hx := hF.1.1
  have hb := hF.1.2.1
  have hts := hF.1.2.2.2.2
  have hl : lv_has ls 4 [(0, .ref b), (1, .ref (b + p0))] := hl
  unfold t_X6_reservedAll at h
  refine lv_iconst (v := 0) hx hb dX6_reservedAll_0 (by decide) ?_
  refine lv_istore_n hx hb dX6_reservedAll_1 rfl hl (Nat.le_of_ble_eq_true rfl) (lv' := [(2, .int 0), (0, .ref b), (1, .ref (b + p0))]) rfl (fun ls hl => ?_)
  refine lv_iconst (v := 0) hx hb dX6_reservedAll_2 (by decide) ?_
  refine lv_istore_n hx hb dX6_reservedAll_3 rfl hl (Nat.le_of_ble_eq_true rfl) (lv' := [(3, .int 0), (2, .int 0), (0, .ref b), (1, .ref (b + p0))]) rfl (fun ls hl => ?_)
  obtain ⟨X1, h, hJ1⟩ := ob1_u h
  have J1 : ∀ (z7 : Int32), X1 = z7 → ∀ (H : Heap) (locs : List Loc) (ls : Array Slot), gJ D clX L0 A s.heap (twG dA b σ G0) sz H locs → lv_has ls 4 [(2, .int z7)] → W p l e R s m args below meth c H locs 0 0 Q (F0 m 27 ls []) := by
    intro z7 e0 H locs ls hG hl
    have h := hJ1 z7 e0
    refine lv_iload_n hx hb dX6_reservedAll_27 rfl (lv_at hl 0 rfl) ?_
    have h := Option.some.inj h
    subst h
    exact g_iret hQ hG ⟨rfl, rfl, rfl⟩ (Nat.le_refl _) (Nat.le_refl _) dX6_reservedAll_28
  have LL1 : ∀ (n : Nat) (y2 : Int32) (y3 : Int32), t_X6_reservedAll_L1 σ p0 n y2 y3 = some X1 → ∀ (H : Heap) (locs : List Loc) (ls : Array Slot), gJ D clX L0 A s.heap (twG dA b σ G0) sz H locs → lv_has ls 4 [(0, .ref b), (1, .ref (b + p0)), (2, .int y2), (3, .int y3)] → W p l e R s m args below meth c H locs 0 0 Q (F0 m 4 ls []) := by
    intro n
    induction n with
    | zero =>
      intro y2 y3 h
      rw [t_X6_reservedAll_L1] at h
      cases h
    | succ n ihL1 =>
      intro y2 y3 h H locs ls hG hl
      rw [t_X6_reservedAll_L1] at h
      refine lv_iload_n hx hb dX6_reservedAll_4 rfl (lv_at hl 3 rfl) ?_
      refine lv_aload_n hx hb dX6_reservedAll_5 rfl (lv_at hl 0 rfl) ?_
      refine tw_getI hF hG 1 (by decide) q1834 rfl dX6_reservedAll_6 ?_
      refine gb_icmp_ge hx hb dX6_reservedAll_9 (tgt := 27) (by decide) h (fun h => ?_) (fun h => ?_)
      · exact J1 _ (Option.some.inj h).symm _ _ _ hG (lv_sub hl [2] rfl)
      · refine lv_iload_n hx hb dX6_reservedAll_12 rfl (lv_at hl 2 rfl) ?_
        refine lv_aload_n hx hb dX6_reservedAll_13 rfl (lv_at hl 0 rfl) ?_
        refine lv_aload_n hx hb dX6_reservedAll_14 rfl (lv_at hl 1 rfl) ?_
        refine lv_iload_n hx hb dX6_reservedAll_15 rfl (lv_at hl 3 rfl) ?_
        refine k_X6_reserved hF hL0 hG hl (Nat.le_of_ble_eq_true rfl) (Nat.le_of_ble_eq_true rfl) hj0 h ⟨Nat.le_of_ble_eq_true rfl, Nat.le_of_ble_eq_true rfl⟩ (Nat.le_of_ble_eq_true rfl) dX6_reservedAll_16 (fun v4 H locs h hG => ?_)
        refine lv_iadd hx hb dX6_reservedAll_19 ?_
        refine gb_nm h (fun x5 h => ?_)
        refine lv_istore_n hx hb dX6_reservedAll_20 rfl hl (Nat.le_of_ble_eq_true rfl) (lv' := [(2, .int x5), (0, .ref b), (1, .ref (b + p0)), (3, .int y3)]) rfl (fun ls hl => ?_)
        refine gb_iinc (k' := 1) hx hb dX6_reservedAll_21 hl (k := 3) rfl (by decide) (Nat.le_of_ble_eq_true rfl) h (fun x6 ls h hl => ?_)
        have hl : lv_has ls 4 [(3, .int x6), (2, .int x5), (0, .ref b), (1, .ref (b + p0))] := hl
        refine lv_goto hx hb dX6_reservedAll_24 (tgt := 4) (by decide) ?_
        exact ihL1 _ _ h _ _ _ hG (lv_sub hl [2, 3, 1, 0] rfl)
  exact LL1 _ _ _ h _ _ _ hG (lv_sub hl [2, 3, 1, 0] rfl)
theorem k_X6_reservedAll (hF : gX p m c cc nL s args RX6 D clX (tyA dA) K A R rm) (hL0 : L0 ≤ b) (hG : gJ D clX L0 A s.heap (twG dA b σ G0) n H locs) (hl : lv_has ls nL lv) (h1 : 3 + 1 ≤ rm.frames) (h2 : 8 + (4 + 11) + 66 ≤ rm.locals) {p0 : Nat} (hj0 : twI p0) {γ : Type} {f : Int32 → Option γ} {o : γ} (h : ob1 (t_X6_reservedAll σ p0) f = some o) (hc : cells ≤ rm.cells ∧ slots ≤ rm.slots) (hW : (rest.map fun v => v.category).sum ≤ 8) (hdg : decode cc pc = .ok (.invokevirtual 260, 3))
    (kk : ∀ (r : Int32) (H1 : Heap) (locs1 : List Loc), f r = some o → gJ D clX L0 A s.heap (twG dA b σ G0) n H1 locs1 → W p l e R s m args below meth c H1 locs1 cells slots Q (F0 m (pc + 3) ls (.int r :: rest))) : W p l e R s m args below meth c H locs cells slots Q (F0 m pc ls (.ref (b + p0) :: .ref b :: rest)) := by
  obtain ⟨r, hr, h⟩ := ob1_e h
  refine g_callV hF hG hl twG_obj (C := RX6) (T := TX6) (N := 35) rfl (w_X6_reservedAll hF.2.2.1 hL0 σ p0 hj0 hr) (cwV 1 hF.1.2.2.2.2 (lw_V q2146 q2148 qs66 q108 q2149) rfl rfl rfl (by decide +kernel) (g_room hF h1 h2)) rfl rfl hW hdg ⟨by rw [hF.2.2.2.2]; exact hc.1, by rw [hF.2.2.2.2]; exact hc.2⟩ (fun v G1 n1 H1 locs1 hR hG1 => ?_)
  obtain ⟨rfl, rfl, rfl⟩ := hR
  exact kk r H1 locs1 h hG1
/-! load_2 -/
def t_X6_load_2 (σ : TS) (p0 : Int32) : Option (Int32 × TS) :=
nm (T_sf σ 0 0) fun (σ1 : TS) =>
ob1 (t_X6_isIn (p0.toInt64) 0 2) fun (v2 : Int32) =>
ob2 (t_X6_may σ1 v2 1) fun (v3 : Int32) (σ4 : TS) =>
if v3 = 0 then (
some (0, σ4))
else (
if p0 = 0 then (
ob1 (t_X6_drawn σ4 6) fun (v7 : Int32) =>
some (v7, σ4))
else (
if p0 = 1 then (
ob1 (T_rd σ4 6 10) fun (v6 : Int32) =>
some (v6, σ4))
else (
ob1 (t_X6_reservedAll σ4 6) fun (v5 : Int32) =>
some (v5, σ4))))
set_option maxRecDepth 100000 in
theorem w_X6_load_2 {l : Launch} {D : va_G} {dA : Nat → ClassId} {K : gKT} {L0 b sz : Nat} {G0 : GH} (hKo : gKo D clX (tyA dA) K) (hL0 : L0 ≤ b) (σ : TS) (p0 : Int32)  {out : Int32 × TS} (h : t_X6_load_2 σ p0 = some out) : gMet l yX6_load_2 (ws_ yX6_load_2 cX6_load_2 2 (some .int)) D clX L0 K [.ref b, .int p0] (twG dA b σ G0) sz 4 89 0 0 (twRI dA b out.2 G0 sz out.1) := by
  refine gMet.of (own := RX6) hKo (by decide +kernel) (Nat.le_of_ble_eq_true rfl) rfl ?_
  intro p e R s m args below meth c A Q ls H hF hQ hin hG hl
  have hx := hF.1.1
  have hb := hF.1.2.1
  have hts := hF.1.2.2.2.2
  have hl : lv_has ls 2 [(0, .ref b), (1, .int p0)] := hl
  unfold t_X6_load_2 at h
  refine lv_aload_n hx hb dX6_load_2_0 rfl (lv_at hl 0 rfl) ?_
  refine lv_iconst (v := 0) hx hb dX6_load_2_1 (by decide) ?_
  refine tw_putI hF hL0 hG 0 (by decide) q1833 rfl h dX6_load_2_2 (fun σ1 H locs h hG => ?_)
  refine lv_aload_n hx hb dX6_load_2_5 rfl (lv_at hl 0 rfl) ?_
  refine lv_iload_n hx hb dX6_load_2_6 rfl (lv_at hl 1 rfl) ?_
  refine lv_i2l hx hb dX6_load_2_7 rfl ?_
  refine lv_lconst (v := 0) hx hb dX6_load_2_8 (by decide) ?_
  refine lv_ldc2 (v := 2) hx hb hF.1.2.2.2.1 (hts _ q2137) dX6_load_2_9 ?_
  refine k_X6_isIn hF hL0 hG hl (Nat.le_of_ble_eq_true rfl) (Nat.le_of_ble_eq_true rfl) h ⟨Nat.le_of_ble_eq_true rfl, Nat.le_of_ble_eq_true rfl⟩ (Nat.le_of_ble_eq_true rfl) dX6_load_2_12 (fun v2 H locs h hG => ?_)
  refine lv_iconst (v := 1) hx hb dX6_load_2_15 (by decide) ?_
  refine k_X6_may hF hL0 hG hl (Nat.le_of_ble_eq_true rfl) (Nat.le_of_ble_eq_true rfl) h ⟨Nat.le_of_ble_eq_true rfl, Nat.le_of_ble_eq_true rfl⟩ (Nat.le_of_ble_eq_true rfl) dX6_load_2_16 (fun v3 σ4 H locs h hG => ?_)
  refine gb_if_ne hx hb dX6_load_2_19 (tgt := 24) (by decide) h (fun h => ?_) (fun h => ?_)
  · refine lv_iload_n hx hb dX6_load_2_24 rfl (lv_at hl 1 rfl) ?_
    refine gb_if_ne hx hb dX6_load_2_25 (tgt := 39) (by decide) h (fun h => ?_) (fun h => ?_)
    · refine lv_iload_n hx hb dX6_load_2_39 rfl (lv_at hl 1 rfl) ?_
      refine lv_iconst (v := 1) hx hb dX6_load_2_40 (by decide) ?_
      refine gb_icmp_ne hx hb dX6_load_2_41 (tgt := 54) (by decide) h (fun h => ?_) (fun h => ?_)
      · refine lv_aload_n hx hb dX6_load_2_54 rfl (lv_at hl 0 rfl) ?_
        refine lv_aload_n hx hb dX6_load_2_55 rfl (lv_at hl 0 rfl) ?_
        refine tw_getR hF hG 10 6 (by decide) q1843 rfl dX6_load_2_56 ?_
        refine k_X6_reservedAll hF hL0 hG hl (Nat.le_of_ble_eq_true rfl) (Nat.le_of_ble_eq_true rfl) (by decide) h ⟨Nat.le_of_ble_eq_true rfl, Nat.le_of_ble_eq_true rfl⟩ (Nat.le_of_ble_eq_true rfl) dX6_load_2_59 (fun v5 H locs h hG => ?_)
        have h := Option.some.inj h
        subst h
        exact g_iret hQ hG ⟨rfl, rfl, rfl⟩ (Nat.le_refl _) (Nat.le_refl _) dX6_load_2_62
      · refine lv_aload_n hx hb dX6_load_2_44 rfl (lv_at hl 0 rfl) ?_
        refine tw_getR hF hG 10 6 (by decide) q1843 rfl dX6_load_2_45 ?_
        refine lv_bipush (v := 10) hx hb dX6_load_2_48 (by decide) ?_
        refine tw_rd hF hG (j := 6) (by decide) h dX6_load_2_50 (fun v6 h => ?_)
        refine lv_goto hx hb dX6_load_2_51 (tgt := 62) (by decide) ?_
        have h := Option.some.inj h
        subst h
        exact g_iret hQ hG ⟨rfl, rfl, rfl⟩ (Nat.le_refl _) (Nat.le_refl _) dX6_load_2_62
    · refine lv_aload_n hx hb dX6_load_2_28 rfl (lv_at hl 0 rfl) ?_
      refine lv_aload_n hx hb dX6_load_2_29 rfl (lv_at hl 0 rfl) ?_
      refine tw_getR hF hG 10 6 (by decide) q1843 rfl dX6_load_2_30 ?_
      refine k_X6_drawn hF hL0 hG hl (Nat.le_of_ble_eq_true rfl) (Nat.le_of_ble_eq_true rfl) (by decide) h ⟨Nat.le_of_ble_eq_true rfl, Nat.le_of_ble_eq_true rfl⟩ (Nat.le_of_ble_eq_true rfl) dX6_load_2_33 (fun v7 H locs h hG => ?_)
      refine lv_goto hx hb dX6_load_2_36 (tgt := 62) (by decide) ?_
      have h := Option.some.inj h
      subst h
      exact g_iret hQ hG ⟨rfl, rfl, rfl⟩ (Nat.le_refl _) (Nat.le_refl _) dX6_load_2_62
  · refine lv_iconst (v := 0) hx hb dX6_load_2_22 (by decide) ?_
    have h := Option.some.inj h
    subst h
    exact g_iret hQ hG ⟨rfl, rfl, rfl⟩ (Nat.le_refl _) (Nat.le_refl _) dX6_load_2_23
/-! message -/
def t_X6_message (σ : TS) (p0 : Int32) (p1 : Int32) : Option (Int32 × TS) :=
nm (T_sf σ 0 0) fun (σ1 : TS) =>
ob1 (T_rd σ1 6 11) fun (v2 : Int32) =>
ob1 (t_X6_isIn (p0.toInt64) 0 ((v2 - 1).toInt64)) fun (v3 : Int32) =>
ob2 (t_X6_may σ1 v3 1) fun (v4 : Int32) (σ5 : TS) =>
if v4 = 0 then (
some (0, σ5))
else (
ob1 (t_X6_isIn (p1.toInt64) 0 2) fun (v6 : Int32) =>
ob2 (t_X6_may σ5 v6 2) fun (v7 : Int32) (σ8 : TS) =>
if v7 = 0 then (
some (0, σ8))
else (
ob1 (T_rd σ8 6 ((195 + (3 * p0)) + p1)) fun (v9 : Int32) =>
some (v9, σ8)))
set_option maxRecDepth 100000 in
theorem w_X6_message {l : Launch} {D : va_G} {dA : Nat → ClassId} {K : gKT} {L0 b sz : Nat} {G0 : GH} (hKo : gKo D clX (tyA dA) K) (hL0 : L0 ≤ b) (σ : TS) (p0 : Int32) (p1 : Int32)  {out : Int32 × TS} (h : t_X6_message σ p0 p1 = some out) : gMet l yX6_message (ws_ yX6_message cX6_message 3 (some .int)) D clX L0 K [.ref b, .int p0, .int p1] (twG dA b σ G0) sz 1 25 0 0 (twRI dA b out.2 G0 sz out.1) := by
  refine gMet.of (own := RX6) hKo (by decide +kernel) (Nat.le_of_ble_eq_true rfl) rfl ?_
  intro p e R s m args below meth c A Q ls H hF hQ hin hG hl
  have hx := hF.1.1
  have hb := hF.1.2.1
  have hts := hF.1.2.2.2.2
  have hl : lv_has ls 3 [(0, .ref b), (1, .int p0), (2, .int p1)] := hl
  unfold t_X6_message at h
  refine lv_aload_n hx hb dX6_message_0 rfl (lv_at hl 0 rfl) ?_
  refine lv_iconst (v := 0) hx hb dX6_message_1 (by decide) ?_
  refine tw_putI hF hL0 hG 0 (by decide) q1833 rfl h dX6_message_2 (fun σ1 H locs h hG => ?_)
  refine lv_aload_n hx hb dX6_message_5 rfl (lv_at hl 0 rfl) ?_
  refine lv_iload_n hx hb dX6_message_6 rfl (lv_at hl 1 rfl) ?_
  refine lv_i2l hx hb dX6_message_7 rfl ?_
  refine lv_lconst (v := 0) hx hb dX6_message_8 (by decide) ?_
  refine lv_aload_n hx hb dX6_message_9 rfl (lv_at hl 0 rfl) ?_
  refine tw_getR hF hG 10 6 (by decide) q1843 rfl dX6_message_10 ?_
  refine lv_bipush (v := 11) hx hb dX6_message_13 (by decide) ?_
  refine tw_rd hF hG (j := 6) (by decide) h dX6_message_15 (fun v2 h => ?_)
  refine lv_iconst (v := 1) hx hb dX6_message_16 (by decide) ?_
  refine lv_isub hx hb dX6_message_17 ?_
  refine lv_i2l hx hb dX6_message_18 rfl ?_
  refine k_X6_isIn hF hL0 hG hl (Nat.le_of_ble_eq_true rfl) (Nat.le_of_ble_eq_true rfl) h ⟨Nat.le_of_ble_eq_true rfl, Nat.le_of_ble_eq_true rfl⟩ (Nat.le_of_ble_eq_true rfl) dX6_message_19 (fun v3 H locs h hG => ?_)
  refine lv_iconst (v := 1) hx hb dX6_message_22 (by decide) ?_
  refine k_X6_may hF hL0 hG hl (Nat.le_of_ble_eq_true rfl) (Nat.le_of_ble_eq_true rfl) h ⟨Nat.le_of_ble_eq_true rfl, Nat.le_of_ble_eq_true rfl⟩ (Nat.le_of_ble_eq_true rfl) dX6_message_23 (fun v4 σ5 H locs h hG => ?_)
  refine gb_if_eq hx hb dX6_message_26 (tgt := 46) (by decide) h (fun h => ?_) (fun h => ?_)
  · refine lv_iconst (v := 0) hx hb dX6_message_46 (by decide) ?_
    have h := Option.some.inj h
    subst h
    exact g_iret hQ hG ⟨rfl, rfl, rfl⟩ (Nat.le_refl _) (Nat.le_refl _) dX6_message_47
  · refine lv_aload_n hx hb dX6_message_29 rfl (lv_at hl 0 rfl) ?_
    refine lv_iload_n hx hb dX6_message_30 rfl (lv_at hl 2 rfl) ?_
    refine lv_i2l hx hb dX6_message_31 rfl ?_
    refine lv_lconst (v := 0) hx hb dX6_message_32 (by decide) ?_
    refine lv_ldc2 (v := 2) hx hb hF.1.2.2.2.1 (hts _ q2137) dX6_message_33 ?_
    refine k_X6_isIn hF hL0 hG hl (Nat.le_of_ble_eq_true rfl) (Nat.le_of_ble_eq_true rfl) h ⟨Nat.le_of_ble_eq_true rfl, Nat.le_of_ble_eq_true rfl⟩ (Nat.le_of_ble_eq_true rfl) dX6_message_36 (fun v6 H locs h hG => ?_)
    refine lv_iconst (v := 2) hx hb dX6_message_39 (by decide) ?_
    refine k_X6_may hF hL0 hG hl (Nat.le_of_ble_eq_true rfl) (Nat.le_of_ble_eq_true rfl) h ⟨Nat.le_of_ble_eq_true rfl, Nat.le_of_ble_eq_true rfl⟩ (Nat.le_of_ble_eq_true rfl) dX6_message_40 (fun v7 σ8 H locs h hG => ?_)
    refine gb_if_ne hx hb dX6_message_43 (tgt := 48) (by decide) h (fun h => ?_) (fun h => ?_)
    · refine lv_aload_n hx hb dX6_message_48 rfl (lv_at hl 0 rfl) ?_
      refine tw_getR hF hG 10 6 (by decide) q1843 rfl dX6_message_49 ?_
      refine lv_sipush (v := 195) hx hb dX6_message_52 (by decide) ?_
      refine lv_iconst (v := 3) hx hb dX6_message_55 (by decide) ?_
      refine lv_iload_n hx hb dX6_message_56 rfl (lv_at hl 1 rfl) ?_
      refine lv_imul hx hb dX6_message_57 ?_
      refine lv_iadd hx hb dX6_message_58 ?_
      refine lv_iload_n hx hb dX6_message_59 rfl (lv_at hl 2 rfl) ?_
      refine lv_iadd hx hb dX6_message_60 ?_
      refine tw_rd hF hG (j := 6) (by decide) h dX6_message_61 (fun v9 h => ?_)
      have h := Option.some.inj h
      subst h
      exact g_iret hQ hG ⟨rfl, rfl, rfl⟩ (Nat.le_refl _) (Nat.le_refl _) dX6_message_62
    · refine lv_iconst (v := 0) hx hb dX6_message_46 (by decide) ?_
      have h := Option.some.inj h
      subst h
      exact g_iret hQ hG ⟨rfl, rfl, rfl⟩ (Nat.le_refl _) (Nat.le_refl _) dX6_message_47
/-! traffic -/
def t_X6_traffic (σ : TS) (p0 : Int32) (p1 : Int32) : Option (Int32 × TS) :=
nm (T_sf σ 0 0) fun (σ1 : TS) =>
ob1 (t_X6_isIn (p0.toInt64) 0 5) fun (v2 : Int32) =>
ob2 (t_X6_may σ1 v2 1) fun (v3 : Int32) (σ4 : TS) =>
if v3 = 0 then (
some (0, σ4))
else (
ob1 (
if p1 = 0 then (
some (15 : Int32))
else (
some (21 : Int32))) fun (z5 : Int32) =>
ob1 (T_rd σ4 6 (z5 + p0)) fun (v6 : Int32) =>
some (v6, σ4))
set_option maxRecDepth 100000 in
theorem w_X6_traffic {l : Launch} {D : va_G} {dA : Nat → ClassId} {K : gKT} {L0 b sz : Nat} {G0 : GH} (hKo : gKo D clX (tyA dA) K) (hL0 : L0 ≤ b) (σ : TS) (p0 : Int32) (p1 : Int32)  {out : Int32 × TS} (h : t_X6_traffic σ p0 p1 = some out) : gMet l yX6_traffic (ws_ yX6_traffic cX6_traffic 3 (some .int)) D clX L0 K [.ref b, .int p0, .int p1] (twG dA b σ G0) sz 1 25 0 0 (twRI dA b out.2 G0 sz out.1) := by
  refine gMet.of (own := RX6) hKo (by decide +kernel) (Nat.le_of_ble_eq_true rfl) rfl ?_
  intro p e R s m args below meth c A Q ls H hF hQ hin hG hl
  have hx := hF.1.1
  have hb := hF.1.2.1
  have hts := hF.1.2.2.2.2
  have hl : lv_has ls 3 [(0, .ref b), (1, .int p0), (2, .int p1)] := hl
  unfold t_X6_traffic at h
  refine lv_aload_n hx hb dX6_traffic_0 rfl (lv_at hl 0 rfl) ?_
  refine lv_iconst (v := 0) hx hb dX6_traffic_1 (by decide) ?_
  refine tw_putI hF hL0 hG 0 (by decide) q1833 rfl h dX6_traffic_2 (fun σ1 H locs h hG => ?_)
  refine lv_aload_n hx hb dX6_traffic_5 rfl (lv_at hl 0 rfl) ?_
  refine lv_iload_n hx hb dX6_traffic_6 rfl (lv_at hl 1 rfl) ?_
  refine lv_i2l hx hb dX6_traffic_7 rfl ?_
  refine lv_lconst (v := 0) hx hb dX6_traffic_8 (by decide) ?_
  refine lv_ldc2 (v := 5) hx hb hF.1.2.2.2.1 (hts _ q2087) dX6_traffic_9 ?_
  refine k_X6_isIn hF hL0 hG hl (Nat.le_of_ble_eq_true rfl) (Nat.le_of_ble_eq_true rfl) h ⟨Nat.le_of_ble_eq_true rfl, Nat.le_of_ble_eq_true rfl⟩ (Nat.le_of_ble_eq_true rfl) dX6_traffic_12 (fun v2 H locs h hG => ?_)
  refine lv_iconst (v := 1) hx hb dX6_traffic_15 (by decide) ?_
  refine k_X6_may hF hL0 hG hl (Nat.le_of_ble_eq_true rfl) (Nat.le_of_ble_eq_true rfl) h ⟨Nat.le_of_ble_eq_true rfl, Nat.le_of_ble_eq_true rfl⟩ (Nat.le_of_ble_eq_true rfl) dX6_traffic_16 (fun v3 σ4 H locs h hG => ?_)
  refine gb_if_eq hx hb dX6_traffic_19 (tgt := 43) (by decide) h (fun h => ?_) (fun h => ?_)
  · refine lv_iconst (v := 0) hx hb dX6_traffic_43 (by decide) ?_
    have h := Option.some.inj h
    subst h
    exact g_iret hQ hG ⟨rfl, rfl, rfl⟩ (Nat.le_refl _) (Nat.le_refl _) dX6_traffic_44
  · refine lv_aload_n hx hb dX6_traffic_22 rfl (lv_at hl 0 rfl) ?_
    refine tw_getR hF hG 10 6 (by decide) q1843 rfl dX6_traffic_23 ?_
    refine lv_iload_n hx hb dX6_traffic_26 rfl (lv_at hl 2 rfl) ?_
    obtain ⟨X1, h, hJ1⟩ := ob1_u h
    have J1 : ∀ (z5 : Int32), X1 = z5 → ∀ (H : Heap) (locs : List Loc) (ls : Array Slot), gJ D clX L0 A s.heap (twG dA b σ4 G0) sz H locs → lv_has ls 3 [(1, .int p0)] → W p l e R s m args below meth c H locs 0 0 Q (F0 m 37 ls [.int z5, .ref (b + 6)]) := by
      intro z5 e0 H locs ls hG hl
      have h := hJ1 z5 e0
      refine lv_iload_n hx hb dX6_traffic_37 rfl (lv_at hl 0 rfl) ?_
      refine lv_iadd hx hb dX6_traffic_38 ?_
      refine tw_rd hF hG (j := 6) (by decide) h dX6_traffic_39 (fun v6 h => ?_)
      refine lv_goto hx hb dX6_traffic_40 (tgt := 44) (by decide) ?_
      have h := Option.some.inj h
      subst h
      exact g_iret hQ hG ⟨rfl, rfl, rfl⟩ (Nat.le_refl _) (Nat.le_refl _) dX6_traffic_44
    refine gb_if_eq hx hb dX6_traffic_27 (tgt := 35) (by decide) h (fun h => ?_) (fun h => ?_)
    · refine lv_bipush (v := 15) hx hb dX6_traffic_35 (by decide) ?_
      exact J1 _ (Option.some.inj h).symm _ _ _ hG (lv_sub hl [1] rfl)
    · refine lv_bipush (v := 21) hx hb dX6_traffic_30 (by decide) ?_
      refine lv_goto hx hb dX6_traffic_32 (tgt := 37) (by decide) ?_
      exact J1 _ (Option.some.inj h).symm _ _ _ hG (lv_sub hl [1] rfl)
/-! learned -/
def t_X6_learned (σ : TS) (p0 : Int32) : Option (Int32 × TS) :=
nm (T_sf σ 0 0) fun (σ1 : TS) =>
ob1 (T_rd σ1 6 13) fun (v2 : Int32) =>
ob1 (t_X6_isIn (p0.toInt64) 0 ((v2 - 1).toInt64)) fun (v3 : Int32) =>
ob2 (t_X6_may σ1 v3 1) fun (v4 : Int32) (σ5 : TS) =>
if v4 = 0 then (
some (0, σ5))
else (
ob1 (T_rd σ5 6 (39 + p0)) fun (v6 : Int32) =>
some (v6, σ5))
set_option maxRecDepth 100000 in
theorem w_X6_learned {l : Launch} {D : va_G} {dA : Nat → ClassId} {K : gKT} {L0 b sz : Nat} {G0 : GH} (hKo : gKo D clX (tyA dA) K) (hL0 : L0 ≤ b) (σ : TS) (p0 : Int32)  {out : Int32 × TS} (h : t_X6_learned σ p0 = some out) : gMet l yX6_learned (ws_ yX6_learned cX6_learned 2 (some .int)) D clX L0 K [.ref b, .int p0] (twG dA b σ G0) sz 1 25 0 0 (twRI dA b out.2 G0 sz out.1) := by
  refine gMet.of (own := RX6) hKo (by decide +kernel) (Nat.le_of_ble_eq_true rfl) rfl ?_
  intro p e R s m args below meth c A Q ls H hF hQ hin hG hl
  have hx := hF.1.1
  have hb := hF.1.2.1
  have hts := hF.1.2.2.2.2
  have hl : lv_has ls 2 [(0, .ref b), (1, .int p0)] := hl
  unfold t_X6_learned at h
  refine lv_aload_n hx hb dX6_learned_0 rfl (lv_at hl 0 rfl) ?_
  refine lv_iconst (v := 0) hx hb dX6_learned_1 (by decide) ?_
  refine tw_putI hF hL0 hG 0 (by decide) q1833 rfl h dX6_learned_2 (fun σ1 H locs h hG => ?_)
  refine lv_aload_n hx hb dX6_learned_5 rfl (lv_at hl 0 rfl) ?_
  refine lv_iload_n hx hb dX6_learned_6 rfl (lv_at hl 1 rfl) ?_
  refine lv_i2l hx hb dX6_learned_7 rfl ?_
  refine lv_lconst (v := 0) hx hb dX6_learned_8 (by decide) ?_
  refine lv_aload_n hx hb dX6_learned_9 rfl (lv_at hl 0 rfl) ?_
  refine tw_getR hF hG 10 6 (by decide) q1843 rfl dX6_learned_10 ?_
  refine lv_bipush (v := 13) hx hb dX6_learned_13 (by decide) ?_
  refine tw_rd hF hG (j := 6) (by decide) h dX6_learned_15 (fun v2 h => ?_)
  refine lv_iconst (v := 1) hx hb dX6_learned_16 (by decide) ?_
  refine lv_isub hx hb dX6_learned_17 ?_
  refine lv_i2l hx hb dX6_learned_18 rfl ?_
  refine k_X6_isIn hF hL0 hG hl (Nat.le_of_ble_eq_true rfl) (Nat.le_of_ble_eq_true rfl) h ⟨Nat.le_of_ble_eq_true rfl, Nat.le_of_ble_eq_true rfl⟩ (Nat.le_of_ble_eq_true rfl) dX6_learned_19 (fun v3 H locs h hG => ?_)
  refine lv_iconst (v := 1) hx hb dX6_learned_22 (by decide) ?_
  refine k_X6_may hF hL0 hG hl (Nat.le_of_ble_eq_true rfl) (Nat.le_of_ble_eq_true rfl) h ⟨Nat.le_of_ble_eq_true rfl, Nat.le_of_ble_eq_true rfl⟩ (Nat.le_of_ble_eq_true rfl) dX6_learned_23 (fun v4 σ5 H locs h hG => ?_)
  refine gb_if_eq hx hb dX6_learned_26 (tgt := 41) (by decide) h (fun h => ?_) (fun h => ?_)
  · refine lv_iconst (v := 0) hx hb dX6_learned_41 (by decide) ?_
    have h := Option.some.inj h
    subst h
    exact g_iret hQ hG ⟨rfl, rfl, rfl⟩ (Nat.le_refl _) (Nat.le_refl _) dX6_learned_42
  · refine lv_aload_n hx hb dX6_learned_29 rfl (lv_at hl 0 rfl) ?_
    refine tw_getR hF hG 10 6 (by decide) q1843 rfl dX6_learned_30 ?_
    refine lv_bipush (v := 39) hx hb dX6_learned_33 (by decide) ?_
    refine lv_iload_n hx hb dX6_learned_35 rfl (lv_at hl 1 rfl) ?_
    refine lv_iadd hx hb dX6_learned_36 ?_
    refine tw_rd hF hG (j := 6) (by decide) h dX6_learned_37 (fun v6 h => ?_)
    refine lv_goto hx hb dX6_learned_38 (tgt := 42) (by decide) ?_
    have h := Option.some.inj h
    subst h
    exact g_iret hQ hG ⟨rfl, rfl, rfl⟩ (Nat.le_refl _) (Nat.le_refl _) dX6_learned_42
/-! isAhead -/
def t_X6_isAhead (σ : TS) (p0 : Nat) (p1 : Int32) (p2 : Int32) : Option (Int32) :=
ob1 (t_X6_at p1 0) fun (v1 : Int32) =>
ob1 (T_rd σ p0 v1) fun (v2 : Int32) =>
ob1 (t_X6_at p2 0) fun (v3 : Int32) =>
ob1 (T_rd σ p0 v3) fun (v4 : Int32) =>
if v2 = v4 then (
ob1 (t_X6_placeOf σ p0 p1) fun (v5 : Int32) =>
ob1 (t_X6_placeOf σ p0 p2) fun (v6 : Int32) =>
if v5 = v6 then (
if p2 ≤ p1 then (
some 0)
else (
some 1))
else (
if v5 = (-1) then (
some 0)
else (
if v6 = (-1) then (
some 1)
else (
if v6 ≤ v5 then (
some 0)
else (
some 1)))))
else (
ob1 (t_X6_at p1 0) fun (v7 : Int32) =>
ob1 (T_rd σ p0 v7) fun (v8 : Int32) =>
ob1 (t_X6_at p2 0) fun (v9 : Int32) =>
ob1 (T_rd σ p0 v9) fun (v10 : Int32) =>
if v8 ≤ v10 then (
some 0)
else (
some 1))
set_option maxRecDepth 100000 in
theorem w_X6_isAhead {l : Launch} {D : va_G} {dA : Nat → ClassId} {K : gKT} {L0 b sz : Nat} {G0 : GH} (hKo : gKo D clX (tyA dA) K) (hL0 : L0 ≤ b) (σ : TS) (p0 : Nat) (p1 : Int32) (p2 : Int32) (hj0 : twI p0) {out : Int32} (h : t_X6_isAhead σ p0 p1 p2 = some out) : gMet l yX6_isAhead (ws_ yX6_isAhead cX6_isAhead 6 (some .boolean)) D clX L0 K [.ref b, .ref (b + p0), .int p1, .int p2] (twG dA b σ G0) sz 1 23 0 0 (twRI dA b σ G0 sz out) := by
  refine gMet.of (own := RX6) hKo (by decide +kernel) (Nat.le_of_ble_eq_true rfl) rfl ?_
  intro p e R s m args below meth c A Q ls H hF hQ hin hG hl
  have hx := hF.1.1
  have hb := hF.1.2.1
  have hts := hF.1.2.2.2.2
  have hl : lv_has ls 6 [(0, .ref b), (1, .ref (b + p0)), (2, .int p1), (3, .int p2)] := hl
  unfold t_X6_isAhead at h
  refine lv_aload_n hx hb dX6_isAhead_0 rfl (lv_at hl 1 rfl) ?_
  refine lv_iload_n hx hb dX6_isAhead_1 rfl (lv_at hl 2 rfl) ?_
  refine lv_iconst (v := 0) hx hb dX6_isAhead_2 (by decide) ?_
  refine k_X6_at hF hL0 hG hl (Nat.le_of_ble_eq_true rfl) (Nat.le_of_ble_eq_true rfl) h ⟨Nat.le_of_ble_eq_true rfl, Nat.le_of_ble_eq_true rfl⟩ (Nat.le_of_ble_eq_true rfl) dX6_isAhead_3 (fun v1 H locs h hG => ?_)
  refine tw_rd hF hG (j := p0) hj0 h dX6_isAhead_6 (fun v2 h => ?_)
  refine lv_aload_n hx hb dX6_isAhead_7 rfl (lv_at hl 1 rfl) ?_
  refine lv_iload_n hx hb dX6_isAhead_8 rfl (lv_at hl 3 rfl) ?_
  refine lv_iconst (v := 0) hx hb dX6_isAhead_9 (by decide) ?_
  refine k_X6_at hF hL0 hG hl (Nat.le_of_ble_eq_true rfl) (Nat.le_of_ble_eq_true rfl) h ⟨Nat.le_of_ble_eq_true rfl, Nat.le_of_ble_eq_true rfl⟩ (Nat.le_of_ble_eq_true rfl) dX6_isAhead_10 (fun v3 H locs h hG => ?_)
  refine tw_rd hF hG (j := p0) hj0 h dX6_isAhead_13 (fun v4 h => ?_)
  refine gb_icmp_eq hx hb dX6_isAhead_14 (tgt := 40) (by decide) h (fun h => ?_) (fun h => ?_)
  · refine lv_aload_n hx hb dX6_isAhead_40 rfl (lv_at hl 0 rfl) ?_
    refine lv_aload_n hx hb dX6_isAhead_41 rfl (lv_at hl 1 rfl) ?_
    refine lv_iload_n hx hb dX6_isAhead_42 rfl (lv_at hl 2 rfl) ?_
    refine k_X6_placeOf hF hL0 hG hl (Nat.le_of_ble_eq_true rfl) (Nat.le_of_ble_eq_true rfl) hj0 h ⟨Nat.le_of_ble_eq_true rfl, Nat.le_of_ble_eq_true rfl⟩ (Nat.le_of_ble_eq_true rfl) dX6_isAhead_43 (fun v5 H locs h hG => ?_)
    refine lv_istore hx hb dX6_isAhead_46 hl (Nat.le_of_ble_eq_true rfl) (lv' := [(4, .int v5), (0, .ref b), (1, .ref (b + p0)), (2, .int p1), (3, .int p2)]) rfl (fun ls hl => ?_)
    refine lv_aload_n hx hb dX6_isAhead_48 rfl (lv_at hl 1 rfl) ?_
    refine lv_aload_n hx hb dX6_isAhead_49 rfl (lv_at hl 2 rfl) ?_
    refine lv_iload_n hx hb dX6_isAhead_50 rfl (lv_at hl 4 rfl) ?_
    refine k_X6_placeOf hF hL0 hG hl (Nat.le_of_ble_eq_true rfl) (Nat.le_of_ble_eq_true rfl) hj0 h ⟨Nat.le_of_ble_eq_true rfl, Nat.le_of_ble_eq_true rfl⟩ (Nat.le_of_ble_eq_true rfl) dX6_isAhead_51 (fun v6 H locs h hG => ?_)
    refine lv_istore hx hb dX6_isAhead_54 hl (Nat.le_of_ble_eq_true rfl) (lv' := [(5, .int v6), (4, .int v5), (0, .ref b), (1, .ref (b + p0)), (2, .int p1), (3, .int p2)]) rfl (fun ls hl => ?_)
    refine lv_iload hx hb dX6_isAhead_56 (lv_at hl 1 rfl) ?_
    refine lv_iload hx hb dX6_isAhead_58 (lv_at hl 0 rfl) ?_
    refine gb_icmp_eq hx hb dX6_isAhead_60 (tgt := 88) (by decide) h (fun h => ?_) (fun h => ?_)
    · refine lv_iload_n hx hb dX6_isAhead_88 rfl (lv_at hl 4 rfl) ?_
      refine lv_iload_n hx hb dX6_isAhead_89 rfl (lv_at hl 5 rfl) ?_
      refine gb_icmp_ge hx hb dX6_isAhead_90 (tgt := 97) (by decide) h (fun h => ?_) (fun h => ?_)
      · refine lv_iconst (v := 0) hx hb dX6_isAhead_97 (by decide) ?_
        have h := Option.some.inj h
        subst h
        exact g_zret hQ hG (by decide) ⟨rfl, rfl, rfl⟩ (Nat.le_refl _) (Nat.le_refl _) dX6_isAhead_98
      · refine lv_iconst (v := 1) hx hb dX6_isAhead_93 (by decide) ?_
        refine lv_goto hx hb dX6_isAhead_94 (tgt := 98) (by decide) ?_
        have h := Option.some.inj h
        subst h
        exact g_zret hQ hG (by decide) ⟨rfl, rfl, rfl⟩ (Nat.le_refl _) (Nat.le_refl _) dX6_isAhead_98
    · refine lv_iload hx hb dX6_isAhead_63 (lv_at hl 1 rfl) ?_
      refine lv_iconst (v := (-1)) hx hb dX6_isAhead_65 (by decide) ?_
      refine gb_icmp_eq hx hb dX6_isAhead_66 (tgt := 86) (by decide) h (fun h => ?_) (fun h => ?_)
      · refine lv_iconst (v := 0) hx hb dX6_isAhead_86 (by decide) ?_
        have h := Option.some.inj h
        subst h
        exact g_zret hQ hG (by decide) ⟨rfl, rfl, rfl⟩ (Nat.le_refl _) (Nat.le_refl _) dX6_isAhead_87
      · refine lv_iload hx hb dX6_isAhead_69 (lv_at hl 0 rfl) ?_
        refine lv_iconst (v := (-1)) hx hb dX6_isAhead_71 (by decide) ?_
        refine gb_icmp_eq hx hb dX6_isAhead_72 (tgt := 82) (by decide) h (fun h => ?_) (fun h => ?_)
        · refine lv_iconst (v := 1) hx hb dX6_isAhead_82 (by decide) ?_
          refine lv_goto hx hb dX6_isAhead_83 (tgt := 87) (by decide) ?_
          have h := Option.some.inj h
          subst h
          exact g_zret hQ hG (by decide) ⟨rfl, rfl, rfl⟩ (Nat.le_refl _) (Nat.le_refl _) dX6_isAhead_87
        · refine lv_iload hx hb dX6_isAhead_75 (lv_at hl 1 rfl) ?_
          refine lv_iload hx hb dX6_isAhead_77 (lv_at hl 0 rfl) ?_
          refine gb_icmp_ge hx hb dX6_isAhead_79 (tgt := 86) (by decide) h (fun h => ?_) (fun h => ?_)
          · refine lv_iconst (v := 0) hx hb dX6_isAhead_86 (by decide) ?_
            have h := Option.some.inj h
            subst h
            exact g_zret hQ hG (by decide) ⟨rfl, rfl, rfl⟩ (Nat.le_refl _) (Nat.le_refl _) dX6_isAhead_87
          · refine lv_iconst (v := 1) hx hb dX6_isAhead_82 (by decide) ?_
            refine lv_goto hx hb dX6_isAhead_83 (tgt := 87) (by decide) ?_
            have h := Option.some.inj h
            subst h
            exact g_zret hQ hG (by decide) ⟨rfl, rfl, rfl⟩ (Nat.le_refl _) (Nat.le_refl _) dX6_isAhead_87
  · refine lv_aload_n hx hb dX6_isAhead_17 rfl (lv_at hl 1 rfl) ?_
    refine lv_iload_n hx hb dX6_isAhead_18 rfl (lv_at hl 2 rfl) ?_
    refine lv_iconst (v := 0) hx hb dX6_isAhead_19 (by decide) ?_
    refine k_X6_at hF hL0 hG hl (Nat.le_of_ble_eq_true rfl) (Nat.le_of_ble_eq_true rfl) h ⟨Nat.le_of_ble_eq_true rfl, Nat.le_of_ble_eq_true rfl⟩ (Nat.le_of_ble_eq_true rfl) dX6_isAhead_20 (fun v7 H locs h hG => ?_)
    refine tw_rd hF hG (j := p0) hj0 h dX6_isAhead_23 (fun v8 h => ?_)
    refine lv_aload_n hx hb dX6_isAhead_24 rfl (lv_at hl 1 rfl) ?_
    refine lv_iload_n hx hb dX6_isAhead_25 rfl (lv_at hl 3 rfl) ?_
    refine lv_iconst (v := 0) hx hb dX6_isAhead_26 (by decide) ?_
    refine k_X6_at hF hL0 hG hl (Nat.le_of_ble_eq_true rfl) (Nat.le_of_ble_eq_true rfl) h ⟨Nat.le_of_ble_eq_true rfl, Nat.le_of_ble_eq_true rfl⟩ (Nat.le_of_ble_eq_true rfl) dX6_isAhead_27 (fun v9 H locs h hG => ?_)
    refine tw_rd hF hG (j := p0) hj0 h dX6_isAhead_30 (fun v10 h => ?_)
    refine gb_icmp_le hx hb dX6_isAhead_31 (tgt := 38) (by decide) h (fun h => ?_) (fun h => ?_)
    · refine lv_iconst (v := 0) hx hb dX6_isAhead_38 (by decide) ?_
      have h := Option.some.inj h
      subst h
      exact g_zret hQ hG (by decide) ⟨rfl, rfl, rfl⟩ (Nat.le_refl _) (Nat.le_refl _) dX6_isAhead_39
    · refine lv_iconst (v := 1) hx hb dX6_isAhead_34 (by decide) ?_
      refine lv_goto hx hb dX6_isAhead_35 (tgt := 39) (by decide) ?_
      have h := Option.some.inj h
      subst h
      exact g_zret hQ hG (by decide) ⟨rfl, rfl, rfl⟩ (Nat.le_refl _) (Nat.le_refl _) dX6_isAhead_39
theorem k_X6_isAhead (hF : gX p m c cc nL s args RX6 D clX (tyA dA) K A R rm) (hL0 : L0 ≤ b) (hG : gJ D clX L0 A s.heap (twG dA b σ G0) n H locs) (hl : lv_has ls nL lv) (h1 : 1 + 1 ≤ rm.frames) (h2 : 8 + (6 + 11) + 23 ≤ rm.locals) {p0 : Nat} {p1 : Int32} {p2 : Int32} (hj0 : twI p0) {γ : Type} {f : Int32 → Option γ} {o : γ} (h : ob1 (t_X6_isAhead σ p0 p1 p2) f = some o) (hc : cells ≤ rm.cells ∧ slots ≤ rm.slots) (hW : (rest.map fun v => v.category).sum ≤ 8) (hdg : decode cc pc = .ok (.invokevirtual 263, 3))
    (kk : ∀ (r : Int32) (H1 : Heap) (locs1 : List Loc), f r = some o → gJ D clX L0 A s.heap (twG dA b σ G0) n H1 locs1 → W p l e R s m args below meth c H1 locs1 cells slots Q (F0 m (pc + 3) ls (.int r :: rest))) : W p l e R s m args below meth c H locs cells slots Q (F0 m pc ls (.int p2 :: .int p1 :: .ref (b + p0) :: .ref b :: rest)) := by
  obtain ⟨r, hr, h⟩ := ob1_e h
  refine g_callV hF hG hl twG_obj (C := RX6) (T := TX6) (N := 35) rfl (w_X6_isAhead hF.2.2.1 hL0 σ p0 p1 p2 hj0 hr) (cwV 3 hF.1.2.2.2.2 (lw_V q2174 q2176 qs68 q108 q2177) rfl rfl rfl (by decide +kernel) (g_room hF h1 h2)) rfl rfl hW hdg ⟨by rw [hF.2.2.2.2]; exact hc.1, by rw [hF.2.2.2.2]; exact hc.2⟩ (fun v G1 n1 H1 locs1 hR hG1 => ?_)
  obtain ⟨rfl, rfl, rfl⟩ := hR
  exact kk r H1 locs1 h hG1
/-! lacks -/
def t_X6_lacks (σ : TS) (p0 : Nat) (p1 : Int32) : Option (Int32) :=
ob1 (T_rd σ 2 p1) fun (v1 : Int32) =>
ob1 (t_X6_withState σ p0 9 3) fun (v2 : Int32) =>
if (v1 &&& (v2 ^^^ (-1))) = 0 then (
some 0)
else (
some 1)
set_option maxRecDepth 100000 in
theorem w_X6_lacks {l : Launch} {D : va_G} {dA : Nat → ClassId} {K : gKT} {L0 b sz : Nat} {G0 : GH} (hKo : gKo D clX (tyA dA) K) (hL0 : L0 ≤ b) (σ : TS) (p0 : Nat) (p1 : Int32) (hj0 : twI p0) {out : Int32} (h : t_X6_lacks σ p0 p1 = some out) : gMet l yX6_lacks (ws_ yX6_lacks cX6_lacks 3 (some .boolean)) D clX L0 K [.ref b, .ref (b + p0), .int p1] (twG dA b σ G0) sz 2 46 0 0 (twRI dA b σ G0 sz out) := by
  refine gMet.of (own := RX6) hKo (by decide +kernel) (Nat.le_of_ble_eq_true rfl) rfl ?_
  intro p e R s m args below meth c A Q ls H hF hQ hin hG hl
  have hx := hF.1.1
  have hb := hF.1.2.1
  have hts := hF.1.2.2.2.2
  have hl : lv_has ls 3 [(0, .ref b), (1, .ref (b + p0)), (2, .int p1)] := hl
  unfold t_X6_lacks at h
  refine lv_aload_n hx hb dX6_lacks_0 rfl (lv_at hl 0 rfl) ?_
  refine tw_getR hF hG 6 2 (by decide) q1839 rfl dX6_lacks_1 ?_
  refine lv_iload_n hx hb dX6_lacks_4 rfl (lv_at hl 2 rfl) ?_
  refine tw_rd hF hG (j := 2) (by decide) h dX6_lacks_5 (fun v1 h => ?_)
  refine lv_aload_n hx hb dX6_lacks_6 rfl (lv_at hl 0 rfl) ?_
  refine lv_aload_n hx hb dX6_lacks_7 rfl (lv_at hl 1 rfl) ?_
  refine lv_bipush (v := 9) hx hb dX6_lacks_8 (by decide) ?_
  refine lv_iconst (v := 3) hx hb dX6_lacks_10 (by decide) ?_
  refine k_X6_withState hF hL0 hG hl (Nat.le_of_ble_eq_true rfl) (Nat.le_of_ble_eq_true rfl) hj0 h ⟨Nat.le_of_ble_eq_true rfl, Nat.le_of_ble_eq_true rfl⟩ (Nat.le_of_ble_eq_true rfl) dX6_lacks_11 (fun v2 H locs h hG => ?_)
  refine lv_iconst (v := (-1)) hx hb dX6_lacks_14 (by decide) ?_
  refine lv_ixor hx hb dX6_lacks_15 ?_
  refine lv_iand hx hb dX6_lacks_16 ?_
  refine gb_if_eq hx hb dX6_lacks_17 (tgt := 24) (by decide) h (fun h => ?_) (fun h => ?_)
  · refine lv_iconst (v := 0) hx hb dX6_lacks_24 (by decide) ?_
    have h := Option.some.inj h
    subst h
    exact g_zret hQ hG (by decide) ⟨rfl, rfl, rfl⟩ (Nat.le_refl _) (Nat.le_refl _) dX6_lacks_25
  · refine lv_iconst (v := 1) hx hb dX6_lacks_20 (by decide) ?_
    refine lv_goto hx hb dX6_lacks_21 (tgt := 25) (by decide) ?_
    have h := Option.some.inj h
    subst h
    exact g_zret hQ hG (by decide) ⟨rfl, rfl, rfl⟩ (Nat.le_refl _) (Nat.le_refl _) dX6_lacks_25
theorem k_X6_lacks (hF : gX p m c cc nL s args RX6 D clX (tyA dA) K A R rm) (hL0 : L0 ≤ b) (hG : gJ D clX L0 A s.heap (twG dA b σ G0) n H locs) (hl : lv_has ls nL lv) (h1 : 2 + 1 ≤ rm.frames) (h2 : 8 + (3 + 11) + 46 ≤ rm.locals) {p0 : Nat} {p1 : Int32} (hj0 : twI p0) {γ : Type} {f : Int32 → Option γ} {o : γ} (h : ob1 (t_X6_lacks σ p0 p1) f = some o) (hc : cells ≤ rm.cells ∧ slots ≤ rm.slots) (hW : (rest.map fun v => v.category).sum ≤ 8) (hdg : decode cc pc = .ok (.invokevirtual 267, 3))
    (kk : ∀ (r : Int32) (H1 : Heap) (locs1 : List Loc), f r = some o → gJ D clX L0 A s.heap (twG dA b σ G0) n H1 locs1 → W p l e R s m args below meth c H1 locs1 cells slots Q (F0 m (pc + 3) ls (.int r :: rest))) : W p l e R s m args below meth c H locs cells slots Q (F0 m pc ls (.int p1 :: .ref (b + p0) :: .ref b :: rest)) := by
  obtain ⟨r, hr, h⟩ := ob1_e h
  refine g_callV hF hG hl twG_obj (C := RX6) (T := TX6) (N := 35) rfl (w_X6_lacks hF.2.2.1 hL0 σ p0 p1 hj0 hr) (cwV 2 hF.1.2.2.2.2 (lw_V q2178 q2180 qs69 q108 q2181) rfl rfl rfl (by decide +kernel) (g_room hF h1 h2)) rfl rfl hW hdg ⟨by rw [hF.2.2.2.2]; exact hc.1, by rw [hF.2.2.2.2]; exact hc.2⟩ (fun v G1 n1 H1 locs1 hR hG1 => ?_)
  obtain ⟨rfl, rfl, rfl⟩ := hR
  exact kk r H1 locs1 h hG1
/-! sends -/
def t_X6_sends (σ : TS) (p0 : Nat) (p1 : Int32) (p2 : Int32) (p3 : Int32) : Option (TS) :=
ob1 (T_rd σ p0 4) fun (v1 : Int32) =>
ob1 (T_rd σ p0 4) fun (v2 : Int32) =>
ob1 (T_wr σ p0 4 (v2 + 1)) fun (σ3 : TS) =>
ob1 (T_rd σ3 p0 (15 + p1)) fun (v4 : Int32) =>
ob1 (T_wr σ3 p0 (15 + p1) (v4 + 1)) fun (σ5 : TS) =>
oe0 (ρ := TS) (
if (σ5.1 3) ≤ 0 then (
some (Sum.inr ()))
else (
ob1 (T_rd σ5 p0 14) fun (v6 : Int32) =>
if v6 = 0 then (
gd (¬ (σ5.1 3) = 0) <|
ob1 (T_rd σ5 3 (v1 - v1 / (σ5.1 3) * (σ5.1 3))) fun (v7 : Int32) =>
if v7 = 1 then (
ob1 (T_rd σ5 p0 5) fun (v8 : Int32) =>
ob1 (T_wr σ5 p0 5 (v8 + 1)) fun (σ9 : TS) =>
ob1 (T_rd σ9 p0 (21 + p1)) fun (v10 : Int32) =>
ob1 (T_wr σ9 p0 (21 + p1) (v10 + 1)) fun (σ11 : TS) =>
some (Sum.inl σ11))
else (
some (Sum.inr ())))
else (
some (Sum.inr ())))) (fun r => some r) (
ob1 (T_rd σ5 p0 11) fun (v12 : Int32) =>
nm (195 + (3 * v12)) fun (x13 : Int32) =>
ob1 (T_wr σ5 p0 x13 p1) fun (σ14 : TS) =>
ob1 (T_wr σ14 p0 (x13 + 1) p2) fun (σ15 : TS) =>
ob1 (T_wr σ15 p0 (x13 + 2) p3) fun (σ16 : TS) =>
ob1 (T_rd σ16 p0 11) fun (v17 : Int32) =>
ob1 (T_wr σ16 p0 11 (v17 + 1)) fun (σ18 : TS) =>
some σ18)
set_option maxRecDepth 100000 in
theorem w_X6_sends {l : Launch} {D : va_G} {dA : Nat → ClassId} {K : gKT} {L0 b sz : Nat} {G0 : GH} (hKo : gKo D clX (tyA dA) K) (hL0 : L0 ≤ b) (σ : TS) (p0 : Nat) (p1 : Int32) (p2 : Int32) (p3 : Int32) (hj0 : twI p0) {out : TS} (h : t_X6_sends σ p0 p1 p2 p3 = some out) : gMet l yX6_sends (ws_ yX6_sends cX6_sends 7 none) D clX L0 K [.ref b, .ref (b + p0), .int p1, .int p2, .int p3] (twG dA b σ G0) sz 0 0 0 0 (twRV dA b out G0 sz) := by
  refine gMet.of (own := RX6) hKo (by decide +kernel) (Nat.le_of_ble_eq_true rfl) rfl ?_
  intro p e R s m args below meth c A Q ls H hF hQ hin hG hl
  have hx := hF.1.1
  have hb := hF.1.2.1
  have hts := hF.1.2.2.2.2
  have hl : lv_has ls 7 [(0, .ref b), (1, .ref (b + p0)), (2, .int p1), (3, .int p2), (4, .int p3)] := hl
  unfold t_X6_sends at h
  refine lv_aload_n hx hb dX6_sends_0 rfl (lv_at hl 1 rfl) ?_
  refine lv_iconst (v := 4) hx hb dX6_sends_1 (by decide) ?_
  refine tw_rd hF hG (j := p0) hj0 h dX6_sends_2 (fun v1 h => ?_)
  refine lv_istore hx hb dX6_sends_3 hl (Nat.le_of_ble_eq_true rfl) (lv' := [(5, .int v1), (0, .ref b), (1, .ref (b + p0)), (2, .int p1), (3, .int p2), (4, .int p3)]) rfl (fun ls hl => ?_)
  refine lv_aload_n hx hb dX6_sends_5 rfl (lv_at hl 2 rfl) ?_
  refine lv_iconst (v := 4) hx hb dX6_sends_6 (by decide) ?_
  refine lv_dup2_11 hx hb dX6_sends_7 rfl rfl ?_
  refine tw_rd hF hG (j := p0) hj0 h dX6_sends_8 (fun v2 h => ?_)
  refine lv_iconst (v := 1) hx hb dX6_sends_9 (by decide) ?_
  refine lv_iadd hx hb dX6_sends_10 ?_
  refine tw_wr hF hL0 hG (j := p0) hj0 h dX6_sends_11 (fun σ3 H locs h hG => ?_)
  refine lv_aload_n hx hb dX6_sends_12 rfl (lv_at hl 2 rfl) ?_
  refine lv_bipush (v := 15) hx hb dX6_sends_13 (by decide) ?_
  refine lv_iload_n hx hb dX6_sends_15 rfl (lv_at hl 3 rfl) ?_
  refine lv_iadd hx hb dX6_sends_16 ?_
  refine lv_dup2_11 hx hb dX6_sends_17 rfl rfl ?_
  refine tw_rd hF hG (j := p0) hj0 h dX6_sends_18 (fun v4 h => ?_)
  refine lv_iconst (v := 1) hx hb dX6_sends_19 (by decide) ?_
  refine lv_iadd hx hb dX6_sends_20 ?_
  refine tw_wr hF hL0 hG (j := p0) hj0 h dX6_sends_21 (fun σ5 H locs h hG => ?_)
  refine lv_aload_n hx hb dX6_sends_22 rfl (lv_at hl 1 rfl) ?_
  refine tw_getI hF hG 3 (by decide) q1836 rfl dX6_sends_23 ?_
  obtain ⟨X1, h, hE1, hJ1⟩ := oe0_u h
  have J1 : X1 = Sum.inr () → ∀ (H : Heap) (locs : List Loc) (ls : Array Slot), gJ D clX L0 A s.heap (twG dA b σ5 G0) sz H locs → lv_has ls 7 [(1, .ref (b + p0)), (2, .int p1), (3, .int p2), (4, .int p3)] → W p l e R s m args below meth c H locs 0 0 Q (F0 m 70 ls []) := by
    intro  e0 H locs ls hG hl
    have h := hJ1 e0
    refine lv_sipush (v := 195) hx hb dX6_sends_70 (by decide) ?_
    refine lv_iconst (v := 3) hx hb dX6_sends_73 (by decide) ?_
    refine lv_aload_n hx hb dX6_sends_74 rfl (lv_at hl 0 rfl) ?_
    refine lv_bipush (v := 11) hx hb dX6_sends_75 (by decide) ?_
    refine tw_rd hF hG (j := p0) hj0 h dX6_sends_77 (fun v12 h => ?_)
    refine lv_imul hx hb dX6_sends_78 ?_
    refine lv_iadd hx hb dX6_sends_79 ?_
    refine gb_nm h (fun x13 h => ?_)
    refine lv_istore hx hb dX6_sends_80 hl (Nat.le_of_ble_eq_true rfl) (lv' := [(6, .int x13), (1, .ref (b + p0)), (2, .int p1), (3, .int p2), (4, .int p3)]) rfl (fun ls hl => ?_)
    refine lv_aload_n hx hb dX6_sends_82 rfl (lv_at hl 1 rfl) ?_
    refine lv_iload hx hb dX6_sends_83 (lv_at hl 0 rfl) ?_
    refine lv_iload_n hx hb dX6_sends_85 rfl (lv_at hl 2 rfl) ?_
    refine tw_wr hF hL0 hG (j := p0) hj0 h dX6_sends_86 (fun σ14 H locs h hG => ?_)
    refine lv_aload_n hx hb dX6_sends_87 rfl (lv_at hl 1 rfl) ?_
    refine lv_iload hx hb dX6_sends_88 (lv_at hl 0 rfl) ?_
    refine lv_iconst (v := 1) hx hb dX6_sends_90 (by decide) ?_
    refine lv_iadd hx hb dX6_sends_91 ?_
    refine lv_iload_n hx hb dX6_sends_92 rfl (lv_at hl 3 rfl) ?_
    refine tw_wr hF hL0 hG (j := p0) hj0 h dX6_sends_93 (fun σ15 H locs h hG => ?_)
    refine lv_aload_n hx hb dX6_sends_94 rfl (lv_at hl 1 rfl) ?_
    refine lv_iload hx hb dX6_sends_95 (lv_at hl 0 rfl) ?_
    refine lv_iconst (v := 2) hx hb dX6_sends_97 (by decide) ?_
    refine lv_iadd hx hb dX6_sends_98 ?_
    refine lv_iload hx hb dX6_sends_99 (lv_at hl 4 rfl) ?_
    refine tw_wr hF hL0 hG (j := p0) hj0 h dX6_sends_101 (fun σ16 H locs h hG => ?_)
    refine lv_aload_n hx hb dX6_sends_102 rfl (lv_at hl 1 rfl) ?_
    refine lv_bipush (v := 11) hx hb dX6_sends_103 (by decide) ?_
    refine lv_dup2_11 hx hb dX6_sends_105 rfl rfl ?_
    refine tw_rd hF hG (j := p0) hj0 h dX6_sends_106 (fun v17 h => ?_)
    refine lv_iconst (v := 1) hx hb dX6_sends_107 (by decide) ?_
    refine lv_iadd hx hb dX6_sends_108 ?_
    refine tw_wr hF hL0 hG (j := p0) hj0 h dX6_sends_109 (fun σ18 H locs h hG => ?_)
    have h := Option.some.inj h
    subst h
    exact g_vret hQ hG ⟨rfl, rfl, rfl⟩ (Nat.le_refl _) (Nat.le_refl _) dX6_sends_110
  refine gb_if_le hx hb dX6_sends_26 (tgt := 70) (by decide) h (fun h => ?_) (fun h => ?_)
  · exact J1 (Option.some.inj h).symm _ _ _ hG (lv_sub hl [2, 3, 4, 5] rfl)
  · refine lv_aload_n hx hb dX6_sends_29 rfl (lv_at hl 2 rfl) ?_
    refine lv_bipush (v := 14) hx hb dX6_sends_30 (by decide) ?_
    refine tw_rd hF hG (j := p0) hj0 h dX6_sends_32 (fun v6 h => ?_)
    refine gb_if_ne hx hb dX6_sends_33 (tgt := 70) (by decide) h (fun h => ?_) (fun h => ?_)
    · exact J1 (Option.some.inj h).symm _ _ _ hG (lv_sub hl [2, 3, 4, 5] rfl)
    · refine lv_aload_n hx hb dX6_sends_36 rfl (lv_at hl 1 rfl) ?_
      refine tw_getR hF hG 7 3 (by decide) q1840 rfl dX6_sends_37 ?_
      refine lv_iload hx hb dX6_sends_40 (lv_at hl 0 rfl) ?_
      refine lv_aload_n hx hb dX6_sends_42 rfl (lv_at hl 1 rfl) ?_
      refine tw_getI hF hG 3 (by decide) q1836 rfl dX6_sends_43 ?_
      refine gb_irem hx hb dX6_sends_46 h (fun h => ?_)
      refine tw_rd hF hG (j := 3) (by decide) h dX6_sends_47 (fun v7 h => ?_)
      refine lv_iconst (v := 1) hx hb dX6_sends_48 (by decide) ?_
      refine gb_icmp_ne hx hb dX6_sends_49 (tgt := 70) (by decide) h (fun h => ?_) (fun h => ?_)
      · exact J1 (Option.some.inj h).symm _ _ _ hG (lv_sub hl [2, 3, 4, 5] rfl)
      · refine lv_aload_n hx hb dX6_sends_52 rfl (lv_at hl 2 rfl) ?_
        refine lv_iconst (v := 5) hx hb dX6_sends_53 (by decide) ?_
        refine lv_dup2_11 hx hb dX6_sends_54 rfl rfl ?_
        refine tw_rd hF hG (j := p0) hj0 h dX6_sends_55 (fun v8 h => ?_)
        refine lv_iconst (v := 1) hx hb dX6_sends_56 (by decide) ?_
        refine lv_iadd hx hb dX6_sends_57 ?_
        refine tw_wr hF hL0 hG (j := p0) hj0 h dX6_sends_58 (fun σ9 H locs h hG => ?_)
        refine lv_aload_n hx hb dX6_sends_59 rfl (lv_at hl 2 rfl) ?_
        refine lv_bipush (v := 21) hx hb dX6_sends_60 (by decide) ?_
        refine lv_iload_n hx hb dX6_sends_62 rfl (lv_at hl 3 rfl) ?_
        refine lv_iadd hx hb dX6_sends_63 ?_
        refine lv_dup2_11 hx hb dX6_sends_64 rfl rfl ?_
        refine tw_rd hF hG (j := p0) hj0 h dX6_sends_65 (fun v10 h => ?_)
        refine lv_iconst (v := 1) hx hb dX6_sends_66 (by decide) ?_
        refine lv_iadd hx hb dX6_sends_67 ?_
        refine tw_wr hF hL0 hG (j := p0) hj0 h dX6_sends_68 (fun σ11 H locs h hG => ?_)
        have h := hE1 _ (Option.some.inj h).symm
        have h := Option.some.inj h
        subst h
        exact g_vret hQ hG ⟨rfl, rfl, rfl⟩ (Nat.le_refl _) (Nat.le_refl _) dX6_sends_69
theorem k_X6_sends (hF : gX p m c cc nL s args RX6 D clX (tyA dA) K A R rm) (hL0 : L0 ≤ b) (hG : gJ D clX L0 A s.heap (twG dA b σ G0) n H locs) (hl : lv_has ls nL lv) (h1 : 0 + 1 ≤ rm.frames) (h2 : 8 + (7 + 11) + 0 ≤ rm.locals) {p0 : Nat} {p1 : Int32} {p2 : Int32} {p3 : Int32} (hj0 : twI p0) {γ : Type} {f : TS → Option γ} {o : γ} (h : ob1 (t_X6_sends σ p0 p1 p2 p3) f = some o) (hc : cells ≤ rm.cells ∧ slots ≤ rm.slots) (hW : (rest.map fun v => v.category).sum ≤ 8) (hdg : decode cc pc = .ok (.invokevirtual 253, 3))
    (kk : ∀ (σ1 : TS) (H1 : Heap) (locs1 : List Loc), f σ1 = some o → gJ D clX L0 A s.heap (twG dA b σ1 G0) n H1 locs1 → W p l e R s m args below meth c H1 locs1 cells slots Q (F0 m (pc + 3) ls rest)) : W p l e R s m args below meth c H locs cells slots Q (F0 m pc ls (.int p3 :: .int p2 :: .int p1 :: .ref (b + p0) :: .ref b :: rest)) := by
  obtain ⟨r, hr, h⟩ := ob1_e h
  refine g_callV hF hG hl twG_obj (C := RX6) (T := TX6) (N := 35) rfl (w_X6_sends hF.2.2.1 hL0 σ p0 p1 p2 p3 hj0 hr) (cwV 4 hF.1.2.2.2.2 (lw_V q2182 q2184 qs70 q108 q2185) rfl rfl rfl (by decide +kernel) (g_room hF h1 h2)) rfl rfl hW hdg ⟨by rw [hF.2.2.2.2]; exact hc.1, by rw [hF.2.2.2.2]; exact hc.2⟩ (fun v G1 n1 H1 locs1 hR hG1 => ?_)
  obtain ⟨rfl, rfl, rfl⟩ := hR
  exact kk r H1 locs1 h hG1
/-! marks -/
def t_X6_marks_L8 (p0 : Nat) (p1 : Int32) (σ7 : TS) : Nat → Int32 → Option (TS ⊕ (Unit))
  | 0, _ => none
  | n + 1, y9 =>
    ob1 (T_rd σ7 p0 12) fun (v10 : Int32) =>
    if v10 ≤ y9 then (
    some (Sum.inr ()))
    else (
    ob1 (T_rd σ7 p0 (27 + y9)) fun (v11 : Int32) =>
    if v11 = p1 then (
    some (Sum.inl σ7))
    else (
    nm (y9 + 1) fun (x12 : Int32) =>
    t_X6_marks_L8 p0 p1 σ7 n x12))
def t_X6_marks (σ : TS) (p0 : Nat) (p1 : Int32) (p2 : Int32) : Option (TS) :=
ob1 (t_X6_at p1 9) fun (v1 : Int32) =>
ob1 (T_wr σ p0 v1 p2) fun (σ2 : TS) =>
ob1 (t_X6_at p1 10) fun (v3 : Int32) =>
ob1 (T_rd σ2 p0 0) fun (v4 : Int32) =>
ob1 (T_wr σ2 p0 v3 v4) fun (σ5 : TS) =>
if p2 = 3 then (
ob1 (t_X6_at p1 11) fun (v6 : Int32) =>
ob1 (T_wr σ5 p0 v6 1) fun (σ7 : TS) =>
oe0 (ρ := TS) (
t_X6_marks_L8 p0 p1 σ7 4096 0) (fun r => some r) (
ob1 (T_rd σ7 p0 12) fun (v13 : Int32) =>
ob1 (T_wr σ7 p0 (27 + v13) p1) fun (σ14 : TS) =>
ob1 (T_rd σ14 p0 12) fun (v15 : Int32) =>
ob1 (T_wr σ14 p0 12 (v15 + 1)) fun (σ16 : TS) =>
some σ16))
else (
some σ5)
set_option maxRecDepth 100000 in
theorem w_X6_marks {l : Launch} {D : va_G} {dA : Nat → ClassId} {K : gKT} {L0 b sz : Nat} {G0 : GH} (hKo : gKo D clX (tyA dA) K) (hL0 : L0 ≤ b) (σ : TS) (p0 : Nat) (p1 : Int32) (p2 : Int32) (hj0 : twI p0) {out : TS} (h : t_X6_marks σ p0 p1 p2 = some out) : gMet l yX6_marks (ws_ yX6_marks cX6_marks 5 none) D clX L0 K [.ref b, .ref (b + p0), .int p1, .int p2] (twG dA b σ G0) sz 1 21 0 0 (twRV dA b out G0 sz) := by
  refine gMet.of (own := RX6) hKo (by decide +kernel) (Nat.le_of_ble_eq_true rfl) rfl ?_
  intro p e R s m args below meth c A Q ls H hF hQ hin hG hl
  have hx := hF.1.1
  have hb := hF.1.2.1
  have hts := hF.1.2.2.2.2
  have hl : lv_has ls 5 [(0, .ref b), (1, .ref (b + p0)), (2, .int p1), (3, .int p2)] := hl
  unfold t_X6_marks at h
  refine lv_aload_n hx hb dX6_marks_0 rfl (lv_at hl 1 rfl) ?_
  refine lv_iload_n hx hb dX6_marks_1 rfl (lv_at hl 2 rfl) ?_
  refine lv_bipush (v := 9) hx hb dX6_marks_2 (by decide) ?_
  refine k_X6_at hF hL0 hG hl (Nat.le_of_ble_eq_true rfl) (Nat.le_of_ble_eq_true rfl) h ⟨Nat.le_of_ble_eq_true rfl, Nat.le_of_ble_eq_true rfl⟩ (Nat.le_of_ble_eq_true rfl) dX6_marks_4 (fun v1 H locs h hG => ?_)
  refine lv_iload_n hx hb dX6_marks_7 rfl (lv_at hl 3 rfl) ?_
  refine tw_wr hF hL0 hG (j := p0) hj0 h dX6_marks_8 (fun σ2 H locs h hG => ?_)
  refine lv_aload_n hx hb dX6_marks_9 rfl (lv_at hl 1 rfl) ?_
  refine lv_iload_n hx hb dX6_marks_10 rfl (lv_at hl 2 rfl) ?_
  refine lv_bipush (v := 10) hx hb dX6_marks_11 (by decide) ?_
  refine k_X6_at hF hL0 hG hl (Nat.le_of_ble_eq_true rfl) (Nat.le_of_ble_eq_true rfl) h ⟨Nat.le_of_ble_eq_true rfl, Nat.le_of_ble_eq_true rfl⟩ (Nat.le_of_ble_eq_true rfl) dX6_marks_13 (fun v3 H locs h hG => ?_)
  refine lv_aload_n hx hb dX6_marks_16 rfl (lv_at hl 1 rfl) ?_
  refine lv_iconst (v := 0) hx hb dX6_marks_17 (by decide) ?_
  refine tw_rd hF hG (j := p0) hj0 h dX6_marks_18 (fun v4 h => ?_)
  refine tw_wr hF hL0 hG (j := p0) hj0 h dX6_marks_19 (fun σ5 H locs h hG => ?_)
  refine lv_iload_n hx hb dX6_marks_20 rfl (lv_at hl 3 rfl) ?_
  refine lv_iconst (v := 3) hx hb dX6_marks_21 (by decide) ?_
  refine gb_icmp_eq hx hb dX6_marks_22 (tgt := 26) (by decide) h (fun h => ?_) (fun h => ?_)
  · refine lv_aload_n hx hb dX6_marks_26 rfl (lv_at hl 1 rfl) ?_
    refine lv_iload_n hx hb dX6_marks_27 rfl (lv_at hl 2 rfl) ?_
    refine lv_bipush (v := 11) hx hb dX6_marks_28 (by decide) ?_
    refine k_X6_at hF hL0 hG hl (Nat.le_of_ble_eq_true rfl) (Nat.le_of_ble_eq_true rfl) h ⟨Nat.le_of_ble_eq_true rfl, Nat.le_of_ble_eq_true rfl⟩ (Nat.le_of_ble_eq_true rfl) dX6_marks_30 (fun v6 H locs h hG => ?_)
    refine lv_iconst (v := 1) hx hb dX6_marks_33 (by decide) ?_
    refine tw_wr hF hL0 hG (j := p0) hj0 h dX6_marks_34 (fun σ7 H locs h hG => ?_)
    refine lv_iconst (v := 0) hx hb dX6_marks_35 (by decide) ?_
    refine lv_istore hx hb dX6_marks_36 hl (Nat.le_of_ble_eq_true rfl) (lv' := [(4, .int 0), (0, .ref b), (1, .ref (b + p0)), (2, .int p1), (3, .int p2)]) rfl (fun ls hl => ?_)
    obtain ⟨X1, h, hE1, hJ1⟩ := oe0_u h
    have J1 : X1 = Sum.inr () → ∀ (H : Heap) (locs : List Loc) (ls : Array Slot), gJ D clX L0 A s.heap (twG dA b σ7 G0) sz H locs → lv_has ls 5 [(1, .ref (b + p0)), (2, .int p1)] → W p l e R s m args below meth c H locs 0 0 Q (F0 m 65 ls []) := by
      intro  e0 H locs ls hG hl
      have h := hJ1 e0
      refine lv_aload_n hx hb dX6_marks_65 rfl (lv_at hl 0 rfl) ?_
      refine lv_bipush (v := 27) hx hb dX6_marks_66 (by decide) ?_
      refine lv_aload_n hx hb dX6_marks_68 rfl (lv_at hl 0 rfl) ?_
      refine lv_bipush (v := 12) hx hb dX6_marks_69 (by decide) ?_
      refine tw_rd hF hG (j := p0) hj0 h dX6_marks_71 (fun v13 h => ?_)
      refine lv_iadd hx hb dX6_marks_72 ?_
      refine lv_iload_n hx hb dX6_marks_73 rfl (lv_at hl 1 rfl) ?_
      refine tw_wr hF hL0 hG (j := p0) hj0 h dX6_marks_74 (fun σ14 H locs h hG => ?_)
      refine lv_aload_n hx hb dX6_marks_75 rfl (lv_at hl 0 rfl) ?_
      refine lv_bipush (v := 12) hx hb dX6_marks_76 (by decide) ?_
      refine lv_dup2_11 hx hb dX6_marks_78 rfl rfl ?_
      refine tw_rd hF hG (j := p0) hj0 h dX6_marks_79 (fun v15 h => ?_)
      refine lv_iconst (v := 1) hx hb dX6_marks_80 (by decide) ?_
      refine lv_iadd hx hb dX6_marks_81 ?_
      refine tw_wr hF hL0 hG (j := p0) hj0 h dX6_marks_82 (fun σ16 H locs h hG => ?_)
      have h := Option.some.inj h
      subst h
      exact g_vret hQ hG ⟨rfl, rfl, rfl⟩ (Nat.le_refl _) (Nat.le_refl _) dX6_marks_83
    have LL8 : ∀ (n : Nat) (y9 : Int32), t_X6_marks_L8 p0 p1 σ7 n y9 = some X1 → ∀ (H : Heap) (locs : List Loc) (ls : Array Slot), gJ D clX L0 A s.heap (twG dA b σ7 G0) sz H locs → lv_has ls 5 [(1, .ref (b + p0)), (2, .int p1), (4, .int y9)] → W p l e R s m args below meth c H locs 0 0 Q (F0 m 38 ls []) := by
      intro n
      induction n with
      | zero =>
        intro y9 h
        rw [t_X6_marks_L8] at h
        cases h
      | succ n ihL8 =>
        intro y9 h H locs ls hG hl
        rw [t_X6_marks_L8] at h
        refine lv_iload hx hb dX6_marks_38 (lv_at hl 2 rfl) ?_
        refine lv_aload_n hx hb dX6_marks_40 rfl (lv_at hl 0 rfl) ?_
        refine lv_bipush (v := 12) hx hb dX6_marks_41 (by decide) ?_
        refine tw_rd hF hG (j := p0) hj0 h dX6_marks_43 (fun v10 h => ?_)
        refine gb_icmp_ge hx hb dX6_marks_44 (tgt := 65) (by decide) h (fun h => ?_) (fun h => ?_)
        · exact J1 (Option.some.inj h).symm _ _ _ hG (lv_sub hl [0, 1] rfl)
        · refine lv_aload_n hx hb dX6_marks_47 rfl (lv_at hl 0 rfl) ?_
          refine lv_bipush (v := 27) hx hb dX6_marks_48 (by decide) ?_
          refine lv_iload hx hb dX6_marks_50 (lv_at hl 2 rfl) ?_
          refine lv_iadd hx hb dX6_marks_52 ?_
          refine tw_rd hF hG (j := p0) hj0 h dX6_marks_53 (fun v11 h => ?_)
          refine lv_iload_n hx hb dX6_marks_54 rfl (lv_at hl 1 rfl) ?_
          refine gb_icmp_ne hx hb dX6_marks_55 (tgt := 59) (by decide) h (fun h => ?_) (fun h => ?_)
          · refine gb_iinc (k' := 1) hx hb dX6_marks_59 hl (k := 2) rfl (by decide) (Nat.le_of_ble_eq_true rfl) h (fun x12 ls h hl => ?_)
            have hl : lv_has ls 5 [(4, .int x12), (1, .ref (b + p0)), (2, .int p1)] := hl
            refine lv_goto hx hb dX6_marks_62 (tgt := 38) (by decide) ?_
            exact ihL8 _ h _ _ _ hG (lv_sub hl [1, 2, 0] rfl)
          · have h := hE1 _ (Option.some.inj h).symm
            have h := Option.some.inj h
            subst h
            exact g_vret hQ hG ⟨rfl, rfl, rfl⟩ (Nat.le_refl _) (Nat.le_refl _) dX6_marks_58
    exact LL8 _ _ h _ _ _ hG (lv_sub hl [2, 3, 0] rfl)
  · have h := Option.some.inj h
    subst h
    exact g_vret hQ hG ⟨rfl, rfl, rfl⟩ (Nat.le_refl _) (Nat.le_refl _) dX6_marks_25
theorem k_X6_marks (hF : gX p m c cc nL s args RX6 D clX (tyA dA) K A R rm) (hL0 : L0 ≤ b) (hG : gJ D clX L0 A s.heap (twG dA b σ G0) n H locs) (hl : lv_has ls nL lv) (h1 : 1 + 1 ≤ rm.frames) (h2 : 8 + (5 + 11) + 21 ≤ rm.locals) {p0 : Nat} {p1 : Int32} {p2 : Int32} (hj0 : twI p0) {γ : Type} {f : TS → Option γ} {o : γ} (h : ob1 (t_X6_marks σ p0 p1 p2) f = some o) (hc : cells ≤ rm.cells ∧ slots ≤ rm.slots) (hW : (rest.map fun v => v.category).sum ≤ 8) (hdg : decode cc pc = .ok (.invokevirtual 241, 3))
    (kk : ∀ (σ1 : TS) (H1 : Heap) (locs1 : List Loc), f σ1 = some o → gJ D clX L0 A s.heap (twG dA b σ1 G0) n H1 locs1 → W p l e R s m args below meth c H1 locs1 cells slots Q (F0 m (pc + 3) ls rest)) : W p l e R s m args below meth c H locs cells slots Q (F0 m pc ls (.int p2 :: .int p1 :: .ref (b + p0) :: .ref b :: rest)) := by
  obtain ⟨r, hr, h⟩ := ob1_e h
  refine g_callV hF hG hl twG_obj (C := RX6) (T := TX6) (N := 35) rfl (w_X6_marks hF.2.2.1 hL0 σ p0 p1 p2 hj0 hr) (cwV 3 hF.1.2.2.2.2 (lw_V q2186 q2188 qs71 q108 q2189) rfl rfl rfl (by decide +kernel) (g_room hF h1 h2)) rfl rfl hW hdg ⟨by rw [hF.2.2.2.2]; exact hc.1, by rw [hF.2.2.2.2]; exact hc.2⟩ (fun v G1 n1 H1 locs1 hR hG1 => ?_)
  obtain ⟨rfl, rfl, rfl⟩ := hR
  exact kk r H1 locs1 h hG1
/-! grantsOf -/
def t_X6_grantsOf_L10 (p0 : Nat) (y7 : Int32) (σ9 : TS) : Nat → Int32 → Int32 → Option (Int32)
  | 0, _, _ => none
  | n + 1, y11, y12 =>
    if (σ9.1 1) ≤ y12 then (
    some y11)
    else (
    ob1 (
    if ((y7 >>> (y12 &&& 31)) &&& 1) = 1 then (
    if y11 = (-1) then (
    some y12)
    else (
    ob1 (t_X6_isAhead σ9 p0 y12 y11) fun (v13 : Int32) =>
    if v13 = 0 then (
    some y11)
    else (
    some y12)))
    else (
    some y11)) fun (z14 : Int32) =>
    nm (y12 + 1) fun (x15 : Int32) =>
    t_X6_grantsOf_L10 p0 y7 σ9 n z14 x15)
def t_X6_grantsOf_L5 (p0 : Nat) (p1 : Int32) : Nat → Int32 → Int32 → Int32 → TS → Option ((Int32 × TS) ⊕ (Int32 × TS))
  | 0, _, _, _, _ => none
  | n + 1, y6, y7, y8, σ9 =>
    if y7 = 0 then (
    some (Sum.inr (y6, σ9)))
    else (
    ob1 (
    t_X6_grantsOf_L10 p0 y7 σ9 4096 (-1) 0) fun (z16 : Int32) =>
    nm (y7 &&& ((1 <<< (z16 &&& 31)) ^^^ (-1))) fun (x17 : Int32) =>
    ob1 (t_X6_lacks σ9 p0 z16) fun (v18 : Int32) =>
    if v18 = 0 then (
    ob1 (t_X6_expected σ9 p0 z16) fun (v19 : Int32) =>
    if v19 ≤ y8 then (
    ob1 (t_X6_expected σ9 p0 z16) fun (v20 : Int32) =>
    nm (y8 - v20) fun (x21 : Int32) =>
    nm (y6 ||| (1 <<< (z16 &&& 31))) fun (x22 : Int32) =>
    if p1 = 0 then (
    t_X6_grantsOf_L5 p0 p1 n x22 x17 x21 σ9)
    else (
    ob1 (t_X6_sends σ9 p0 4 z16 (-1)) fun (σ23 : TS) =>
    ob1 (t_X6_marks σ23 p0 z16 2) fun (σ24 : TS) =>
    t_X6_grantsOf_L5 p0 p1 n x22 x17 x21 σ24))
    else (
    ob1 (T_rd σ9 p0 9) fun (v25 : Int32) =>
    if v25 = 1 then (
    some (Sum.inl (y6, σ9)))
    else (
    t_X6_grantsOf_L5 p0 p1 n y6 x17 y8 σ9)))
    else (
    t_X6_grantsOf_L5 p0 p1 n y6 x17 y8 σ9))
def t_X6_grantsOf (σ : TS) (p0 : Nat) (p1 : Int32) : Option (Int32 × TS) :=
ob1 (t_X6_withState σ p0 9 1) fun (v1 : Int32) =>
ob1 (T_rd σ p0 6) fun (v2 : Int32) =>
ob1 (t_X6_reservedAll σ p0) fun (v3 : Int32) =>
nm (v2 - v3) fun (x4 : Int32) =>
oe2 (ρ := (Int32 × TS)) (
t_X6_grantsOf_L5 p0 p1 4096 0 v1 x4 σ) (fun r => some r) fun (z26 : Int32) (σ27 : TS) =>
some (z26, σ27)
set_option maxRecDepth 100000 in
theorem w_X6_grantsOf {l : Launch} {D : va_G} {dA : Nat → ClassId} {K : gKT} {L0 b sz : Nat} {G0 : GH} (hKo : gKo D clX (tyA dA) K) (hL0 : L0 ≤ b) (σ : TS) (p0 : Nat) (p1 : Int32) (hj0 : twI p0) {out : Int32 × TS} (h : t_X6_grantsOf σ p0 p1 = some out) : gMet l yX6_grantsOf (ws_ yX6_grantsOf cX6_grantsOf 8 (some .int)) D clX L0 K [.ref b, .ref (b + p0), .int p1] (twG dA b σ G0) sz 4 89 0 0 (twRI dA b out.2 G0 sz out.1) := by
  refine gMet.of (own := RX6) hKo (by decide +kernel) (Nat.le_of_ble_eq_true rfl) rfl ?_
  intro p e R s m args below meth c A Q ls H hF hQ hin hG hl
  have hx := hF.1.1
  have hb := hF.1.2.1
  have hts := hF.1.2.2.2.2
  have hl : lv_has ls 8 [(0, .ref b), (1, .ref (b + p0)), (2, .int p1)] := hl
  unfold t_X6_grantsOf at h
  refine lv_iconst (v := 0) hx hb dX6_grantsOf_0 (by decide) ?_
  refine lv_istore_n hx hb dX6_grantsOf_1 rfl hl (Nat.le_of_ble_eq_true rfl) (lv' := [(3, .int 0), (0, .ref b), (1, .ref (b + p0)), (2, .int p1)]) rfl (fun ls hl => ?_)
  refine lv_aload_n hx hb dX6_grantsOf_2 rfl (lv_at hl 1 rfl) ?_
  refine lv_aload_n hx hb dX6_grantsOf_3 rfl (lv_at hl 2 rfl) ?_
  refine lv_bipush (v := 9) hx hb dX6_grantsOf_4 (by decide) ?_
  refine lv_iconst (v := 1) hx hb dX6_grantsOf_6 (by decide) ?_
  refine k_X6_withState hF hL0 hG hl (Nat.le_of_ble_eq_true rfl) (Nat.le_of_ble_eq_true rfl) hj0 h ⟨Nat.le_of_ble_eq_true rfl, Nat.le_of_ble_eq_true rfl⟩ (Nat.le_of_ble_eq_true rfl) dX6_grantsOf_7 (fun v1 H locs h hG => ?_)
  refine lv_istore hx hb dX6_grantsOf_10 hl (Nat.le_of_ble_eq_true rfl) (lv' := [(4, .int v1), (3, .int 0), (0, .ref b), (1, .ref (b + p0)), (2, .int p1)]) rfl (fun ls hl => ?_)
  refine lv_aload_n hx hb dX6_grantsOf_12 rfl (lv_at hl 3 rfl) ?_
  refine lv_bipush (v := 6) hx hb dX6_grantsOf_13 (by decide) ?_
  refine tw_rd hF hG (j := p0) hj0 h dX6_grantsOf_15 (fun v2 h => ?_)
  refine lv_aload_n hx hb dX6_grantsOf_16 rfl (lv_at hl 2 rfl) ?_
  refine lv_aload_n hx hb dX6_grantsOf_17 rfl (lv_at hl 3 rfl) ?_
  refine k_X6_reservedAll hF hL0 hG hl (Nat.le_of_ble_eq_true rfl) (Nat.le_of_ble_eq_true rfl) hj0 h ⟨Nat.le_of_ble_eq_true rfl, Nat.le_of_ble_eq_true rfl⟩ (Nat.le_of_ble_eq_true rfl) dX6_grantsOf_18 (fun v3 H locs h hG => ?_)
  refine lv_isub hx hb dX6_grantsOf_21 ?_
  refine gb_nm h (fun x4 h => ?_)
  refine lv_istore hx hb dX6_grantsOf_22 hl (Nat.le_of_ble_eq_true rfl) (lv' := [(5, .int x4), (4, .int v1), (3, .int 0), (0, .ref b), (1, .ref (b + p0)), (2, .int p1)]) rfl (fun ls hl => ?_)
  obtain ⟨X1, h, hE1, hJ1⟩ := oe2_u h
  have J1 : ∀ (z26 : Int32) (σ27 : TS), X1 = Sum.inr (z26, σ27) → ∀ (H : Heap) (locs : List Loc) (ls : Array Slot), gJ D clX L0 A s.heap (twG dA b σ27 G0) sz H locs → lv_has ls 8 [(3, .int z26)] → W p l e R s m args below meth c H locs 0 0 Q (F0 m 175 ls []) := by
    intro z26 σ27 e0 H locs ls hG hl
    have h := hJ1 z26 σ27 e0
    refine lv_iload_n hx hb dX6_grantsOf_175 rfl (lv_at hl 0 rfl) ?_
    have h := Option.some.inj h
    subst h
    exact g_iret hQ hG ⟨rfl, rfl, rfl⟩ (Nat.le_refl _) (Nat.le_refl _) dX6_grantsOf_176
  have LL5 : ∀ (n : Nat) (y6 : Int32) (y7 : Int32) (y8 : Int32) (σ9 : TS), t_X6_grantsOf_L5 p0 p1 n y6 y7 y8 σ9 = some X1 → ∀ (H : Heap) (locs : List Loc) (ls : Array Slot), gJ D clX L0 A s.heap (twG dA b σ9 G0) sz H locs → lv_has ls 8 [(0, .ref b), (1, .ref (b + p0)), (2, .int p1), (3, .int y6), (4, .int y7), (5, .int y8)] → W p l e R s m args below meth c H locs 0 0 Q (F0 m 24 ls []) := by
    intro n
    induction n with
    | zero =>
      intro y6 y7 y8 σ9 h
      rw [t_X6_grantsOf_L5] at h
      cases h
    | succ n ihL5 =>
      intro y6 y7 y8 σ9 h H locs ls hG hl
      rw [t_X6_grantsOf_L5] at h
      refine lv_iload hx hb dX6_grantsOf_24 (lv_at hl 4 rfl) ?_
      refine gb_if_eq hx hb dX6_grantsOf_26 (tgt := 175) (by decide) h (fun h => ?_) (fun h => ?_)
      · exact J1 _ _ (Option.some.inj h).symm _ _ _ hG (lv_sub hl [3] rfl)
      · refine lv_iconst (v := (-1)) hx hb dX6_grantsOf_29 (by decide) ?_
        refine lv_istore hx hb dX6_grantsOf_30 hl (Nat.le_of_ble_eq_true rfl) (lv' := [(6, .int (-1)), (0, .ref b), (1, .ref (b + p0)), (2, .int p1), (3, .int y6), (4, .int y7), (5, .int y8)]) rfl (fun ls hl => ?_)
        refine lv_iconst (v := 0) hx hb dX6_grantsOf_32 (by decide) ?_
        refine lv_istore hx hb dX6_grantsOf_33 hl (Nat.le_of_ble_eq_true rfl) (lv' := [(7, .int 0), (6, .int (-1)), (0, .ref b), (1, .ref (b + p0)), (2, .int p1), (3, .int y6), (4, .int y7), (5, .int y8)]) rfl (fun ls hl => ?_)
        obtain ⟨X2, h, hJ2⟩ := ob1_u h
        have J2 : ∀ (z16 : Int32), X2 = z16 → ∀ (H : Heap) (locs : List Loc) (ls : Array Slot), gJ D clX L0 A s.heap (twG dA b σ9 G0) sz H locs → lv_has ls 8 [(0, .ref b), (1, .ref (b + p0)), (2, .int p1), (3, .int y6), (4, .int y7), (5, .int y8), (6, .int z16)] → W p l e R s m args below meth c H locs 0 0 Q (F0 m 83 ls []) := by
          intro z16 e0 H locs ls hG hl
          have h := hJ2 z16 e0
          refine lv_iload hx hb dX6_grantsOf_83 (lv_at hl 4 rfl) ?_
          refine lv_iconst (v := 1) hx hb dX6_grantsOf_85 (by decide) ?_
          refine lv_iload hx hb dX6_grantsOf_86 (lv_at hl 6 rfl) ?_
          refine lv_ishl hx hb dX6_grantsOf_88 ?_
          refine lv_iconst (v := (-1)) hx hb dX6_grantsOf_89 (by decide) ?_
          refine lv_ixor hx hb dX6_grantsOf_90 ?_
          refine lv_iand hx hb dX6_grantsOf_91 ?_
          refine gb_nm h (fun x17 h => ?_)
          refine lv_istore hx hb dX6_grantsOf_92 hl (Nat.le_of_ble_eq_true rfl) (lv' := [(4, .int x17), (0, .ref b), (1, .ref (b + p0)), (2, .int p1), (3, .int y6), (5, .int y8), (6, .int z16)]) rfl (fun ls hl => ?_)
          refine lv_aload_n hx hb dX6_grantsOf_94 rfl (lv_at hl 1 rfl) ?_
          refine lv_aload_n hx hb dX6_grantsOf_95 rfl (lv_at hl 2 rfl) ?_
          refine lv_iload hx hb dX6_grantsOf_96 (lv_at hl 6 rfl) ?_
          refine k_X6_lacks hF hL0 hG hl (Nat.le_of_ble_eq_true rfl) (Nat.le_of_ble_eq_true rfl) hj0 h ⟨Nat.le_of_ble_eq_true rfl, Nat.le_of_ble_eq_true rfl⟩ (Nat.le_of_ble_eq_true rfl) dX6_grantsOf_98 (fun v18 H locs h hG => ?_)
          refine gb_if_eq hx hb dX6_grantsOf_101 (tgt := 107) (by decide) h (fun h => ?_) (fun h => ?_)
          · refine lv_aload_n hx hb dX6_grantsOf_107 rfl (lv_at hl 1 rfl) ?_
            refine lv_aload_n hx hb dX6_grantsOf_108 rfl (lv_at hl 2 rfl) ?_
            refine lv_iload hx hb dX6_grantsOf_109 (lv_at hl 6 rfl) ?_
            refine k_X6_expected hF hL0 hG hl (Nat.le_of_ble_eq_true rfl) (Nat.le_of_ble_eq_true rfl) hj0 h ⟨Nat.le_of_ble_eq_true rfl, Nat.le_of_ble_eq_true rfl⟩ (Nat.le_of_ble_eq_true rfl) dX6_grantsOf_111 (fun v19 H locs h hG => ?_)
            refine lv_iload hx hb dX6_grantsOf_114 (lv_at hl 5 rfl) ?_
            refine gb_icmp_le hx hb dX6_grantsOf_116 (tgt := 129) (by decide) h (fun h => ?_) (fun h => ?_)
            · refine lv_iload hx hb dX6_grantsOf_129 (lv_at hl 5 rfl) ?_
              refine lv_aload_n hx hb dX6_grantsOf_131 rfl (lv_at hl 1 rfl) ?_
              refine lv_aload_n hx hb dX6_grantsOf_132 rfl (lv_at hl 2 rfl) ?_
              refine lv_iload hx hb dX6_grantsOf_133 (lv_at hl 6 rfl) ?_
              refine k_X6_expected hF hL0 hG hl (Nat.le_of_ble_eq_true rfl) (Nat.le_of_ble_eq_true rfl) hj0 h ⟨Nat.le_of_ble_eq_true rfl, Nat.le_of_ble_eq_true rfl⟩ (Nat.le_of_ble_eq_true rfl) dX6_grantsOf_135 (fun v20 H locs h hG => ?_)
              refine lv_isub hx hb dX6_grantsOf_138 ?_
              refine gb_nm h (fun x21 h => ?_)
              refine lv_istore hx hb dX6_grantsOf_139 hl (Nat.le_of_ble_eq_true rfl) (lv' := [(5, .int x21), (4, .int x17), (0, .ref b), (1, .ref (b + p0)), (2, .int p1), (3, .int y6), (6, .int z16)]) rfl (fun ls hl => ?_)
              refine lv_iload_n hx hb dX6_grantsOf_141 rfl (lv_at hl 5 rfl) ?_
              refine lv_iconst (v := 1) hx hb dX6_grantsOf_142 (by decide) ?_
              refine lv_iload hx hb dX6_grantsOf_143 (lv_at hl 6 rfl) ?_
              refine lv_ishl hx hb dX6_grantsOf_145 ?_
              refine lv_ior hx hb dX6_grantsOf_146 ?_
              refine gb_nm h (fun x22 h => ?_)
              refine lv_istore_n hx hb dX6_grantsOf_147 rfl hl (Nat.le_of_ble_eq_true rfl) (lv' := [(3, .int x22), (5, .int x21), (4, .int x17), (0, .ref b), (1, .ref (b + p0)), (2, .int p1), (6, .int z16)]) rfl (fun ls hl => ?_)
              refine lv_iload_n hx hb dX6_grantsOf_148 rfl (lv_at hl 5 rfl) ?_
              refine gb_if_ne hx hb dX6_grantsOf_149 (tgt := 155) (by decide) h (fun h => ?_) (fun h => ?_)
              · refine lv_aload_n hx hb dX6_grantsOf_155 rfl (lv_at hl 3 rfl) ?_
                refine lv_aload_n hx hb dX6_grantsOf_156 rfl (lv_at hl 4 rfl) ?_
                refine lv_iconst (v := 4) hx hb dX6_grantsOf_157 (by decide) ?_
                refine lv_iload hx hb dX6_grantsOf_158 (lv_at hl 6 rfl) ?_
                refine lv_iconst (v := (-1)) hx hb dX6_grantsOf_160 (by decide) ?_
                refine k_X6_sends hF hL0 hG hl (Nat.le_of_ble_eq_true rfl) (Nat.le_of_ble_eq_true rfl) hj0 h ⟨Nat.le_of_ble_eq_true rfl, Nat.le_of_ble_eq_true rfl⟩ (Nat.le_of_ble_eq_true rfl) dX6_grantsOf_161 (fun σ23 H locs h hG => ?_)
                refine lv_aload_n hx hb dX6_grantsOf_164 rfl (lv_at hl 3 rfl) ?_
                refine lv_aload_n hx hb dX6_grantsOf_165 rfl (lv_at hl 4 rfl) ?_
                refine lv_iload hx hb dX6_grantsOf_166 (lv_at hl 6 rfl) ?_
                refine lv_iconst (v := 2) hx hb dX6_grantsOf_168 (by decide) ?_
                refine k_X6_marks hF hL0 hG hl (Nat.le_of_ble_eq_true rfl) (Nat.le_of_ble_eq_true rfl) hj0 h ⟨Nat.le_of_ble_eq_true rfl, Nat.le_of_ble_eq_true rfl⟩ (Nat.le_of_ble_eq_true rfl) dX6_grantsOf_169 (fun σ24 H locs h hG => ?_)
                refine lv_goto hx hb dX6_grantsOf_172 (tgt := 24) (by decide) ?_
                exact ihL5 _ _ _ _ h _ _ _ hG (lv_sub hl [3, 4, 5, 0, 2, 1] rfl)
              · refine lv_goto hx hb dX6_grantsOf_152 (tgt := 24) (by decide) ?_
                exact ihL5 _ _ _ _ h _ _ _ hG (lv_sub hl [3, 4, 5, 0, 2, 1] rfl)
            · refine lv_aload_n hx hb dX6_grantsOf_119 rfl (lv_at hl 2 rfl) ?_
              refine lv_bipush (v := 9) hx hb dX6_grantsOf_120 (by decide) ?_
              refine tw_rd hF hG (j := p0) hj0 h dX6_grantsOf_122 (fun v25 h => ?_)
              refine lv_iconst (v := 1) hx hb dX6_grantsOf_123 (by decide) ?_
              refine gb_icmp_ne hx hb dX6_grantsOf_124 (tgt := 24) (by decide) h (fun h => ?_) (fun h => ?_)
              · exact ihL5 _ _ _ _ h _ _ _ hG (lv_sub hl [1, 2, 3, 4, 0, 5] rfl)
              · refine lv_iload_n hx hb dX6_grantsOf_127 rfl (lv_at hl 4 rfl) ?_
                have h := hE1 _ (Option.some.inj h).symm
                have h := Option.some.inj h
                subst h
                exact g_iret hQ hG ⟨rfl, rfl, rfl⟩ (Nat.le_refl _) (Nat.le_refl _) dX6_grantsOf_128
          · refine lv_goto hx hb dX6_grantsOf_104 (tgt := 24) (by decide) ?_
            exact ihL5 _ _ _ _ h _ _ _ hG (lv_sub hl [1, 2, 3, 4, 0, 5] rfl)
        have LL10 : ∀ (n : Nat) (y11 : Int32) (y12 : Int32), t_X6_grantsOf_L10 p0 y7 σ9 n y11 y12 = some X2 → ∀ (H : Heap) (locs : List Loc) (ls : Array Slot), gJ D clX L0 A s.heap (twG dA b σ9 G0) sz H locs → lv_has ls 8 [(0, .ref b), (1, .ref (b + p0)), (2, .int p1), (3, .int y6), (4, .int y7), (5, .int y8), (6, .int y11), (7, .int y12)] → W p l e R s m args below meth c H locs 0 0 Q (F0 m 35 ls []) := by
          intro n
          induction n with
          | zero =>
            intro y11 y12 h
            rw [t_X6_grantsOf_L10] at h
            cases h
          | succ n ihL10 =>
            intro y11 y12 h H locs ls hG hl
            rw [t_X6_grantsOf_L10] at h
            refine lv_iload hx hb dX6_grantsOf_35 (lv_at hl 7 rfl) ?_
            refine lv_aload_n hx hb dX6_grantsOf_37 rfl (lv_at hl 0 rfl) ?_
            refine tw_getI hF hG 1 (by decide) q1834 rfl dX6_grantsOf_38 ?_
            refine gb_icmp_ge hx hb dX6_grantsOf_41 (tgt := 83) (by decide) h (fun h => ?_) (fun h => ?_)
            · exact J2 _ (Option.some.inj h).symm _ _ _ hG (lv_sub hl [0, 1, 2, 3, 4, 5, 6] rfl)
            · refine lv_iload hx hb dX6_grantsOf_44 (lv_at hl 4 rfl) ?_
              refine lv_iload hx hb dX6_grantsOf_46 (lv_at hl 7 rfl) ?_
              refine lv_ishr hx hb dX6_grantsOf_48 ?_
              refine lv_iconst (v := 1) hx hb dX6_grantsOf_49 (by decide) ?_
              refine lv_iand hx hb dX6_grantsOf_50 ?_
              refine lv_iconst (v := 1) hx hb dX6_grantsOf_51 (by decide) ?_
              obtain ⟨X3, h, hJ3⟩ := ob1_u h
              have J3 : ∀ (z14 : Int32), X3 = z14 → ∀ (H : Heap) (locs : List Loc) (ls : Array Slot), gJ D clX L0 A s.heap (twG dA b σ9 G0) sz H locs → lv_has ls 8 [(0, .ref b), (1, .ref (b + p0)), (2, .int p1), (3, .int y6), (4, .int y7), (5, .int y8), (6, .int z14), (7, .int y12)] → W p l e R s m args below meth c H locs 0 0 Q (F0 m 77 ls []) := by
                intro z14 e0 H locs ls hG hl
                have h := hJ3 z14 e0
                refine gb_iinc (k' := 1) hx hb dX6_grantsOf_77 hl (k := 7) rfl (by decide) (Nat.le_of_ble_eq_true rfl) h (fun x15 ls h hl => ?_)
                have hl : lv_has ls 8 [(7, .int x15), (0, .ref b), (1, .ref (b + p0)), (2, .int p1), (3, .int y6), (4, .int y7), (5, .int y8), (6, .int z14)] := hl
                refine lv_goto hx hb dX6_grantsOf_80 (tgt := 35) (by decide) ?_
                exact ihL10 _ _ h _ _ _ hG (lv_sub hl [1, 2, 3, 4, 5, 6, 7, 0] rfl)
              refine gb_icmp_ne hx hb dX6_grantsOf_52 (tgt := 77) (by decide) h (fun h => ?_) (fun h => ?_)
              · exact J3 _ (Option.some.inj h).symm _ _ _ hG hl
              · refine lv_iload hx hb dX6_grantsOf_55 (lv_at hl 6 rfl) ?_
                refine lv_iconst (v := (-1)) hx hb dX6_grantsOf_57 (by decide) ?_
                refine gb_icmp_eq hx hb dX6_grantsOf_58 (tgt := 73) (by decide) h (fun h => ?_) (fun h => ?_)
                · refine lv_iload hx hb dX6_grantsOf_73 (lv_at hl 7 rfl) ?_
                  refine lv_istore hx hb dX6_grantsOf_75 hl (Nat.le_of_ble_eq_true rfl) (lv' := [(6, .int y12), (0, .ref b), (1, .ref (b + p0)), (2, .int p1), (3, .int y6), (4, .int y7), (5, .int y8), (7, .int y12)]) rfl (fun ls hl => ?_)
                  exact J3 _ (Option.some.inj h).symm _ _ _ hG (lv_sub hl [1, 2, 3, 4, 5, 6, 0, 7] rfl)
                · refine lv_aload_n hx hb dX6_grantsOf_61 rfl (lv_at hl 0 rfl) ?_
                  refine lv_aload_n hx hb dX6_grantsOf_62 rfl (lv_at hl 1 rfl) ?_
                  refine lv_iload hx hb dX6_grantsOf_63 (lv_at hl 7 rfl) ?_
                  refine lv_iload hx hb dX6_grantsOf_65 (lv_at hl 6 rfl) ?_
                  refine k_X6_isAhead hF hL0 hG hl (Nat.le_of_ble_eq_true rfl) (Nat.le_of_ble_eq_true rfl) hj0 h ⟨Nat.le_of_ble_eq_true rfl, Nat.le_of_ble_eq_true rfl⟩ (Nat.le_of_ble_eq_true rfl) dX6_grantsOf_67 (fun v13 H locs h hG => ?_)
                  refine gb_if_eq hx hb dX6_grantsOf_70 (tgt := 77) (by decide) h (fun h => ?_) (fun h => ?_)
                  · exact J3 _ (Option.some.inj h).symm _ _ _ hG hl
                  · refine lv_iload hx hb dX6_grantsOf_73 (lv_at hl 7 rfl) ?_
                    refine lv_istore hx hb dX6_grantsOf_75 hl (Nat.le_of_ble_eq_true rfl) (lv' := [(6, .int y12), (0, .ref b), (1, .ref (b + p0)), (2, .int p1), (3, .int y6), (4, .int y7), (5, .int y8), (7, .int y12)]) rfl (fun ls hl => ?_)
                    exact J3 _ (Option.some.inj h).symm _ _ _ hG (lv_sub hl [1, 2, 3, 4, 5, 6, 0, 7] rfl)
        exact LL10 _ _ _ h _ _ _ hG (lv_sub hl [2, 3, 4, 5, 6, 7, 1, 0] rfl)
  exact LL5 _ _ _ _ _ h _ _ _ hG (lv_sub hl [3, 4, 5, 2, 1, 0] rfl)
theorem k_X6_grantsOf (hF : gX p m c cc nL s args RX6 D clX (tyA dA) K A R rm) (hL0 : L0 ≤ b) (hG : gJ D clX L0 A s.heap (twG dA b σ G0) n H locs) (hl : lv_has ls nL lv) (h1 : 4 + 1 ≤ rm.frames) (h2 : 8 + (8 + 11) + 89 ≤ rm.locals) {p0 : Nat} {p1 : Int32} (hj0 : twI p0) {γ : Type} {f : Int32 → TS → Option γ} {o : γ} (h : ob2 (t_X6_grantsOf σ p0 p1) f = some o) (hc : cells ≤ rm.cells ∧ slots ≤ rm.slots) (hW : (rest.map fun v => v.category).sum ≤ 8) (hdg : decode cc pc = .ok (.invokevirtual 292, 3))
    (kk : ∀ (r : Int32) (σ1 : TS) (H1 : Heap) (locs1 : List Loc), f r σ1 = some o → gJ D clX L0 A s.heap (twG dA b σ1 G0) n H1 locs1 → W p l e R s m args below meth c H1 locs1 cells slots Q (F0 m (pc + 3) ls (.int r :: rest))) : W p l e R s m args below meth c H locs cells slots Q (F0 m pc ls (.int p1 :: .ref (b + p0) :: .ref b :: rest)) := by
  obtain ⟨r, r2, hr, h⟩ := ob2_e h
  refine g_callV hF hG hl twG_obj (C := RX6) (T := TX6) (N := 35) rfl (w_X6_grantsOf hF.2.2.1 hL0 σ p0 p1 hj0 hr) (cwV 2 hF.1.2.2.2.2 (lw_V q2170 q2172 qs67 q108 q2173) rfl rfl rfl (by decide +kernel) (g_room hF h1 h2)) rfl rfl hW hdg ⟨by rw [hF.2.2.2.2]; exact hc.1, by rw [hF.2.2.2.2]; exact hc.2⟩ (fun v G1 n1 H1 locs1 hR hG1 => ?_)
  obtain ⟨rfl, rfl, rfl⟩ := hR
  exact kk r r2 H1 locs1 h hG1
/-! grants -/
def t_X6_grants (σ : TS) : Option (Int32 × TS) :=
nm (T_sf σ 0 0) fun (σ1 : TS) =>
ob2 (t_X6_grantsOf σ1 6 0) fun (v2 : Int32) (σ3 : TS) =>
some (v2, σ3)
set_option maxRecDepth 100000 in
theorem w_X6_grants {l : Launch} {D : va_G} {dA : Nat → ClassId} {K : gKT} {L0 b sz : Nat} {G0 : GH} (hKo : gKo D clX (tyA dA) K) (hL0 : L0 ≤ b) (σ : TS)  {out : Int32 × TS} (h : t_X6_grants σ = some out) : gMet l yX6_grants (ws_ yX6_grants cX6_grants 1 (some .int)) D clX L0 K [.ref b] (twG dA b σ G0) sz 5 116 0 0 (twRI dA b out.2 G0 sz out.1) := by
  refine gMet.of (own := RX6) hKo (by decide +kernel) (Nat.le_of_ble_eq_true rfl) rfl ?_
  intro p e R s m args below meth c A Q ls H hF hQ hin hG hl
  have hx := hF.1.1
  have hb := hF.1.2.1
  have hts := hF.1.2.2.2.2
  have hl : lv_has ls 1 [(0, .ref b)] := hl
  unfold t_X6_grants at h
  refine lv_aload_n hx hb dX6_grants_0 rfl (lv_at hl 0 rfl) ?_
  refine lv_iconst (v := 0) hx hb dX6_grants_1 (by decide) ?_
  refine tw_putI hF hL0 hG 0 (by decide) q1833 rfl h dX6_grants_2 (fun σ1 H locs h hG => ?_)
  refine lv_aload_n hx hb dX6_grants_5 rfl (lv_at hl 0 rfl) ?_
  refine lv_aload_n hx hb dX6_grants_6 rfl (lv_at hl 0 rfl) ?_
  refine tw_getR hF hG 10 6 (by decide) q1843 rfl dX6_grants_7 ?_
  refine lv_iconst (v := 0) hx hb dX6_grants_10 (by decide) ?_
  refine k_X6_grantsOf hF hL0 hG hl (Nat.le_of_ble_eq_true rfl) (Nat.le_of_ble_eq_true rfl) (by decide) h ⟨Nat.le_of_ble_eq_true rfl, Nat.le_of_ble_eq_true rfl⟩ (Nat.le_of_ble_eq_true rfl) dX6_grants_11 (fun v2 σ3 H locs h hG => ?_)
  have h := Option.some.inj h
  subst h
  exact g_iret hQ hG ⟨rfl, rfl, rfl⟩ (Nat.le_refl _) (Nat.le_refl _) dX6_grants_14
/-! why -/
def t_X6_why (σ : TS) (p0 : Int32) : Option (Int32 × TS) :=
nm (T_sf σ 0 0) fun (σ1 : TS) =>
ob1 (t_X6_isOutlet σ1 p0) fun (v2 : Int32) =>
ob2 (t_X6_may σ1 v2 1) fun (v3 : Int32) (σ4 : TS) =>
if v3 = 0 then (
some (0, σ4))
else (
ob1 (t_X6_at p0 1) fun (v5 : Int32) =>
ob1 (T_rd σ4 6 v5) fun (v6 : Int32) =>
if v6 = 0 then (
some (1, σ4))
else (
ob1 (t_X6_at p0 2) fun (v7 : Int32) =>
ob1 (T_rd σ4 6 v7) fun (v8 : Int32) =>
if v8 = 1 then (
ob1 (t_X6_isDark σ4 6) fun (v9 : Int32) =>
if v9 = 0 then (
ob1 (t_X6_at p0 9) fun (v10 : Int32) =>
ob1 (T_rd σ4 6 v10) fun (v11 : Int32) =>
if v11 = 1 then (
ob1 (t_X6_lacks σ4 6 p0) fun (v12 : Int32) =>
if v12 = 0 then (
ob1 (t_X6_expected σ4 6 p0) fun (v13 : Int32) =>
ob1 (T_rd σ4 6 6) fun (v14 : Int32) =>
if v13 ≤ v14 then (
ob2 (t_X6_grantsOf σ4 6 0) fun (v15 : Int32) (σ16 : TS) =>
if ((v15 >>> (p0 &&& 31)) &&& 1) = 1 then (
some (0, σ16))
else (
some (7, σ16)))
else (
some (6, σ4)))
else (
some (5, σ4)))
else (
some (4, σ4)))
else (
some (3, σ4)))
else (
some (2, σ4))))
set_option maxRecDepth 100000 in
theorem w_X6_why {l : Launch} {D : va_G} {dA : Nat → ClassId} {K : gKT} {L0 b sz : Nat} {G0 : GH} (hKo : gKo D clX (tyA dA) K) (hL0 : L0 ≤ b) (σ : TS) (p0 : Int32)  {out : Int32 × TS} (h : t_X6_why σ p0 = some out) : gMet l yX6_why (ws_ yX6_why cX6_why 2 (some .int)) D clX L0 K [.ref b, .int p0] (twG dA b σ G0) sz 5 116 0 0 (twRI dA b out.2 G0 sz out.1) := by
  refine gMet.of (own := RX6) hKo (by decide +kernel) (Nat.le_of_ble_eq_true rfl) rfl ?_
  intro p e R s m args below meth c A Q ls H hF hQ hin hG hl
  have hx := hF.1.1
  have hb := hF.1.2.1
  have hts := hF.1.2.2.2.2
  have hl : lv_has ls 2 [(0, .ref b), (1, .int p0)] := hl
  unfold t_X6_why at h
  refine lv_aload_n hx hb dX6_why_0 rfl (lv_at hl 0 rfl) ?_
  refine lv_iconst (v := 0) hx hb dX6_why_1 (by decide) ?_
  refine tw_putI hF hL0 hG 0 (by decide) q1833 rfl h dX6_why_2 (fun σ1 H locs h hG => ?_)
  refine lv_aload_n hx hb dX6_why_5 rfl (lv_at hl 0 rfl) ?_
  refine lv_aload_n hx hb dX6_why_6 rfl (lv_at hl 0 rfl) ?_
  refine lv_iload_n hx hb dX6_why_7 rfl (lv_at hl 1 rfl) ?_
  refine k_X6_isOutlet hF hL0 hG hl (Nat.le_of_ble_eq_true rfl) (Nat.le_of_ble_eq_true rfl) h ⟨Nat.le_of_ble_eq_true rfl, Nat.le_of_ble_eq_true rfl⟩ (Nat.le_of_ble_eq_true rfl) dX6_why_8 (fun v2 H locs h hG => ?_)
  refine lv_iconst (v := 1) hx hb dX6_why_11 (by decide) ?_
  refine k_X6_may hF hL0 hG hl (Nat.le_of_ble_eq_true rfl) (Nat.le_of_ble_eq_true rfl) h ⟨Nat.le_of_ble_eq_true rfl, Nat.le_of_ble_eq_true rfl⟩ (Nat.le_of_ble_eq_true rfl) dX6_why_12 (fun v3 σ4 H locs h hG => ?_)
  refine gb_if_ne hx hb dX6_why_15 (tgt := 20) (by decide) h (fun h => ?_) (fun h => ?_)
  · refine lv_aload_n hx hb dX6_why_20 rfl (lv_at hl 0 rfl) ?_
    refine tw_getR hF hG 10 6 (by decide) q1843 rfl dX6_why_21 ?_
    refine lv_iload_n hx hb dX6_why_24 rfl (lv_at hl 1 rfl) ?_
    refine lv_iconst (v := 1) hx hb dX6_why_25 (by decide) ?_
    refine k_X6_at hF hL0 hG hl (Nat.le_of_ble_eq_true rfl) (Nat.le_of_ble_eq_true rfl) h ⟨Nat.le_of_ble_eq_true rfl, Nat.le_of_ble_eq_true rfl⟩ (Nat.le_of_ble_eq_true rfl) dX6_why_26 (fun v5 H locs h hG => ?_)
    refine tw_rd hF hG (j := 6) (by decide) h dX6_why_29 (fun v6 h => ?_)
    refine gb_if_ne hx hb dX6_why_30 (tgt := 35) (by decide) h (fun h => ?_) (fun h => ?_)
    · refine lv_aload_n hx hb dX6_why_35 rfl (lv_at hl 0 rfl) ?_
      refine tw_getR hF hG 10 6 (by decide) q1843 rfl dX6_why_36 ?_
      refine lv_iload_n hx hb dX6_why_39 rfl (lv_at hl 1 rfl) ?_
      refine lv_iconst (v := 2) hx hb dX6_why_40 (by decide) ?_
      refine k_X6_at hF hL0 hG hl (Nat.le_of_ble_eq_true rfl) (Nat.le_of_ble_eq_true rfl) h ⟨Nat.le_of_ble_eq_true rfl, Nat.le_of_ble_eq_true rfl⟩ (Nat.le_of_ble_eq_true rfl) dX6_why_41 (fun v7 H locs h hG => ?_)
      refine tw_rd hF hG (j := 6) (by decide) h dX6_why_44 (fun v8 h => ?_)
      refine lv_iconst (v := 1) hx hb dX6_why_45 (by decide) ?_
      refine gb_icmp_eq hx hb dX6_why_46 (tgt := 51) (by decide) h (fun h => ?_) (fun h => ?_)
      · refine lv_aload_n hx hb dX6_why_51 rfl (lv_at hl 0 rfl) ?_
        refine lv_aload_n hx hb dX6_why_52 rfl (lv_at hl 0 rfl) ?_
        refine tw_getR hF hG 10 6 (by decide) q1843 rfl dX6_why_53 ?_
        refine k_X6_isDark hF hL0 hG hl (Nat.le_of_ble_eq_true rfl) (Nat.le_of_ble_eq_true rfl) (by decide) h ⟨Nat.le_of_ble_eq_true rfl, Nat.le_of_ble_eq_true rfl⟩ (Nat.le_of_ble_eq_true rfl) dX6_why_56 (fun v9 H locs h hG => ?_)
        refine gb_if_eq hx hb dX6_why_59 (tgt := 64) (by decide) h (fun h => ?_) (fun h => ?_)
        · refine lv_aload_n hx hb dX6_why_64 rfl (lv_at hl 0 rfl) ?_
          refine tw_getR hF hG 10 6 (by decide) q1843 rfl dX6_why_65 ?_
          refine lv_iload_n hx hb dX6_why_68 rfl (lv_at hl 1 rfl) ?_
          refine lv_bipush (v := 9) hx hb dX6_why_69 (by decide) ?_
          refine k_X6_at hF hL0 hG hl (Nat.le_of_ble_eq_true rfl) (Nat.le_of_ble_eq_true rfl) h ⟨Nat.le_of_ble_eq_true rfl, Nat.le_of_ble_eq_true rfl⟩ (Nat.le_of_ble_eq_true rfl) dX6_why_71 (fun v10 H locs h hG => ?_)
          refine tw_rd hF hG (j := 6) (by decide) h dX6_why_74 (fun v11 h => ?_)
          refine lv_iconst (v := 1) hx hb dX6_why_75 (by decide) ?_
          refine gb_icmp_eq hx hb dX6_why_76 (tgt := 81) (by decide) h (fun h => ?_) (fun h => ?_)
          · refine lv_aload_n hx hb dX6_why_81 rfl (lv_at hl 0 rfl) ?_
            refine lv_aload_n hx hb dX6_why_82 rfl (lv_at hl 0 rfl) ?_
            refine tw_getR hF hG 10 6 (by decide) q1843 rfl dX6_why_83 ?_
            refine lv_iload_n hx hb dX6_why_86 rfl (lv_at hl 1 rfl) ?_
            refine k_X6_lacks hF hL0 hG hl (Nat.le_of_ble_eq_true rfl) (Nat.le_of_ble_eq_true rfl) (by decide) h ⟨Nat.le_of_ble_eq_true rfl, Nat.le_of_ble_eq_true rfl⟩ (Nat.le_of_ble_eq_true rfl) dX6_why_87 (fun v12 H locs h hG => ?_)
            refine gb_if_eq hx hb dX6_why_90 (tgt := 95) (by decide) h (fun h => ?_) (fun h => ?_)
            · refine lv_aload_n hx hb dX6_why_95 rfl (lv_at hl 0 rfl) ?_
              refine lv_aload_n hx hb dX6_why_96 rfl (lv_at hl 0 rfl) ?_
              refine tw_getR hF hG 10 6 (by decide) q1843 rfl dX6_why_97 ?_
              refine lv_iload_n hx hb dX6_why_100 rfl (lv_at hl 1 rfl) ?_
              refine k_X6_expected hF hL0 hG hl (Nat.le_of_ble_eq_true rfl) (Nat.le_of_ble_eq_true rfl) (by decide) h ⟨Nat.le_of_ble_eq_true rfl, Nat.le_of_ble_eq_true rfl⟩ (Nat.le_of_ble_eq_true rfl) dX6_why_101 (fun v13 H locs h hG => ?_)
              refine lv_aload_n hx hb dX6_why_104 rfl (lv_at hl 0 rfl) ?_
              refine tw_getR hF hG 10 6 (by decide) q1843 rfl dX6_why_105 ?_
              refine lv_bipush (v := 6) hx hb dX6_why_108 (by decide) ?_
              refine tw_rd hF hG (j := 6) (by decide) h dX6_why_110 (fun v14 h => ?_)
              refine gb_icmp_le hx hb dX6_why_111 (tgt := 117) (by decide) h (fun h => ?_) (fun h => ?_)
              · refine lv_aload_n hx hb dX6_why_117 rfl (lv_at hl 0 rfl) ?_
                refine lv_aload_n hx hb dX6_why_118 rfl (lv_at hl 0 rfl) ?_
                refine tw_getR hF hG 10 6 (by decide) q1843 rfl dX6_why_119 ?_
                refine lv_iconst (v := 0) hx hb dX6_why_122 (by decide) ?_
                refine k_X6_grantsOf hF hL0 hG hl (Nat.le_of_ble_eq_true rfl) (Nat.le_of_ble_eq_true rfl) (by decide) h ⟨Nat.le_of_ble_eq_true rfl, Nat.le_of_ble_eq_true rfl⟩ (Nat.le_of_ble_eq_true rfl) dX6_why_123 (fun v15 σ16 H locs h hG => ?_)
                refine lv_iload_n hx hb dX6_why_126 rfl (lv_at hl 1 rfl) ?_
                refine lv_ishr hx hb dX6_why_127 ?_
                refine lv_iconst (v := 1) hx hb dX6_why_128 (by decide) ?_
                refine lv_iand hx hb dX6_why_129 ?_
                refine lv_iconst (v := 1) hx hb dX6_why_130 (by decide) ?_
                refine gb_icmp_ne hx hb dX6_why_131 (tgt := 138) (by decide) h (fun h => ?_) (fun h => ?_)
                · refine lv_bipush (v := 7) hx hb dX6_why_138 (by decide) ?_
                  have h := Option.some.inj h
                  subst h
                  exact g_iret hQ hG ⟨rfl, rfl, rfl⟩ (Nat.le_refl _) (Nat.le_refl _) dX6_why_140
                · refine lv_iconst (v := 0) hx hb dX6_why_134 (by decide) ?_
                  refine lv_goto hx hb dX6_why_135 (tgt := 140) (by decide) ?_
                  have h := Option.some.inj h
                  subst h
                  exact g_iret hQ hG ⟨rfl, rfl, rfl⟩ (Nat.le_refl _) (Nat.le_refl _) dX6_why_140
              · refine lv_bipush (v := 6) hx hb dX6_why_114 (by decide) ?_
                have h := Option.some.inj h
                subst h
                exact g_iret hQ hG ⟨rfl, rfl, rfl⟩ (Nat.le_refl _) (Nat.le_refl _) dX6_why_116
            · refine lv_iconst (v := 5) hx hb dX6_why_93 (by decide) ?_
              have h := Option.some.inj h
              subst h
              exact g_iret hQ hG ⟨rfl, rfl, rfl⟩ (Nat.le_refl _) (Nat.le_refl _) dX6_why_94
          · refine lv_iconst (v := 4) hx hb dX6_why_79 (by decide) ?_
            have h := Option.some.inj h
            subst h
            exact g_iret hQ hG ⟨rfl, rfl, rfl⟩ (Nat.le_refl _) (Nat.le_refl _) dX6_why_80
        · refine lv_iconst (v := 3) hx hb dX6_why_62 (by decide) ?_
          have h := Option.some.inj h
          subst h
          exact g_iret hQ hG ⟨rfl, rfl, rfl⟩ (Nat.le_refl _) (Nat.le_refl _) dX6_why_63
      · refine lv_iconst (v := 2) hx hb dX6_why_49 (by decide) ?_
        have h := Option.some.inj h
        subst h
        exact g_iret hQ hG ⟨rfl, rfl, rfl⟩ (Nat.le_refl _) (Nat.le_refl _) dX6_why_50
    · refine lv_iconst (v := 1) hx hb dX6_why_33 (by decide) ?_
      have h := Option.some.inj h
      subst h
      exact g_iret hQ hG ⟨rfl, rfl, rfl⟩ (Nat.le_refl _) (Nat.le_refl _) dX6_why_34
  · refine lv_iconst (v := 0) hx hb dX6_why_18 (by decide) ?_
    have h := Option.some.inj h
    subst h
    exact g_iret hQ hG ⟨rfl, rfl, rfl⟩ (Nat.le_refl _) (Nat.le_refl _) dX6_why_19
end TT
