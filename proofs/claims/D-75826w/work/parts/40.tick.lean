/-! BlackoutStart.ticksTo: passes until all of a set run; some none: never in 500 -/
def c_ticks (su : SU) (sc : SC) (set : Int32) : Nat → Int32 → SS → Option (Option Int32)
  | 0, _, _ => none
  | n + 1, i, σ =>
    if 500 < i then some none
    else ob1 (c_X2_inState su σ 3) fun v =>
    if (set &&& (v ^^^ (-1))) = 0 then some (some i)
    else ob1 (c_X2_passes su sc σ) fun σ' => nm (i + 1) fun i' => c_ticks su sc set n i' σ'
section TK
variable {p : Program} {l : Launch} {e : Env} {R : Room} {s : State} {m : MethodId} {args : Array Value} {below : List Frame} {meth : Method} {c : Code} {H : Heap} {locs : List Loc} {cells slots : Nat} {Q : State → Prop}
variable {cc : ByteArray} {pc : Nat} {ls : Array Slot} {rest : List Value} {A : Nat → Prop} {L0 n nL : Nat} {g : gNum} {own : String} {rm : Room} {γ : Type} {o : γ} {lv : List (Nat × Value)} {RR : Option Value → GH → Nat → Prop} {RT : String → Addr → GH → Prop} {mc ms : Nat} {ret : Option FieldType}
variable {b d x sz : Nat} {sc : SC} {su : SU} {σ : SS} {G0 G : GH} {set : Int32} {index : Nat}
set_option maxRecDepth 100000 in
theorem w_X1_ticksTo {l : Launch} (hst : l.stackTraces = false) (hL0 : L0 ≤ b) (hsu : suOK g.2.1 su b d G0) (hsc : suAt b d G0 sc.1 (.inl (g.2.1 0, sc.2.1, .inl sc.2.2))) {out : Option Int32} (h : c_ticks su sc set 502 0 σ = some out) : gMetX l yX1_ticksTo (ws_ yX1_ticksTo cX1_ticksTo 3 (some .int)) g.1 clX L0 (gK g) [.ref b, .int set] (sG g.2.1 b d (su.1 0) sc σ G0) sz 11 240 1504 9024 (fun v G' n => ∃ r, out = some r ∧ v = some (.int r) ∧ ∃ σ' G1, gx G0 G1 ∧ G' = sG g.2.1 b d (su.1 0) sc σ' G1) (fun E _ G' => out = none ∧ E = exN 4 ∧ ∃ σ' G1, gx G0 G1 ∧ G' = sG g.2.1 b d (su.1 0) sc σ' G1) := by
  refine gMetX.of (own := RX1) (gK_ok g) (by decide +kernel) (Nat.le_of_ble_eq_true rfl) rfl ?_
  intro p e R s m args below meth c A Q ls H hF hQ hnt hG hl
  have hx := hF.1.1
  have hb := hF.1.2.1
  have hts := hF.1.2.2.2.2
  obtain ⟨Q', hQ', hret⟩ := gx_ret hQ
  have hl : lv_has ls 3 [(0, .ref b), (1, .int set)] := hl
  have L : ∀ (n k : Nat) (σ : SS) (G1 : GH) (nz : Nat) (H : Heap) (locs : List Loc) (ls : Array Slot), n + k = 502 → k ≤ 501 → c_ticks su sc set n (nI k) σ = some out → suOK g.2.1 su b d G1 → suAt b d G1 sc.1 (.inl (g.2.1 0, sc.2.1, .inl sc.2.2)) → gx G0 G1 → gJK g L0 A s.heap (sG g.2.1 b d (su.1 0) sc σ G1) nz H locs → lv_has ls 3 [(2, .int (nI k)), (0, .ref b), (1, .int set)] → W p l e R s m args below meth c H locs (3 * k) (18 * k) Q (F0 m 2 ls []) := by
    intro n
    induction n with
    | zero => intro k σ G1 nz H locs ls hn hk h; cases h
    | succ n ih =>
      intro k σ G1 nz H locs ls hn hk h hsu hsc hgx hG hl
      unfold c_ticks at h
      refine lv_iload_n hx hb dX1_ticksTo_2 rfl (lv_at hl 0 rfl) ?_
      refine lv_sipush (v := 500) hx hb dX1_ticksTo_3 (by decide) ?_
      have hroom : 3 * k + 1 ≤ 1504 ∧ 18 * k + 6 ≤ 9024 := by omega
      by_cases h5 : (500 : Int32) < nI k
      · rw [if_pos h5] at h
        have h := Option.some.inj h
        refine lv_icmp_gt hx hb dX1_ticksTo_6 (tgt := 33) (by decide) (fun _ => ?_) (fun q => absurd h5 q)
        exact g_throw0 hst hF hQ hnt hG hl ex_ok4 ⟨by decide, by decide⟩ q1477 q120 (fun q => ⟨h.symm, rfl, σ, G1, hgx, rfl⟩) dX1_ticksTo_33 dX1_ticksTo_36 dX1_ticksTo_37 dX1_ticksTo_40 (Nat.le_of_ble_eq_true rfl) (Nat.le_of_ble_eq_true rfl) hroom hroom.1 hroom.2
      · rw [if_neg h5] at h
        have hk5 : k ≤ 500 := by
          refine Nat.not_lt.mp fun q => h5 ?_
          exact nI_lt (a := 500) q (by omega)
        have hroom2 : 3 * k ≤ 1504 ∧ 18 * k ≤ 9024 := by omega
        have hroom3 : 3 * k + 3 ≤ 1504 ∧ 18 * k + 18 ≤ 9024 := by omega
        refine lv_icmp_gt hx hb dX1_ticksTo_6 (tgt := 33) (by decide) (fun q => absurd q h5) (fun _ => ?_)
        refine lv_iload_n hx hb dX1_ticksTo_9 rfl (lv_at hl 2 rfl) ?_
        refine lv_aload_n hx hb dX1_ticksTo_10 rfl (lv_at hl 1 rfl) ?_
        refine lv_iconst (v := 3) hx hb dX1_ticksTo_11 (by decide) ?_
        refine k_X2_inState q1532 hF hL0 hsu hsc hG hl (Nat.le_of_ble_eq_true rfl) (Nat.le_of_ble_eq_true rfl) h hroom2 (Nat.le_of_ble_eq_true rfl) dX1_ticksTo_12 (fun v H locs h hG => ?_)
        refine lv_iconst (v := (-1)) hx hb dX1_ticksTo_15 (by decide) ?_
        refine lv_ixor hx hb dX1_ticksTo_16 ?_
        refine lv_iand hx hb dX1_ticksTo_17 ?_
        refine gb_if_ne hx hb dX1_ticksTo_18 (tgt := 23) (by decide) h (fun h => ?_) (fun h => ?_)
        · refine lv_aload_n hx hb dX1_ticksTo_23 rfl (lv_at hl 1 rfl) ?_
          refine k_X2_passes q1592 hF hL0 hsu hsc hG hl (Nat.le_of_ble_eq_true rfl) (Nat.le_of_ble_eq_true rfl) h hroom3 (Nat.le_of_ble_eq_true rfl) dX1_ticksTo_24 (fun σ2 G2 n2 H locs hx2 h hG => ?_)
          refine gb_iinc (k' := 1) (f := fun y => if y = nI (k + 1) then c_ticks su sc set n y σ2 else none) hx hb dX1_ticksTo_27 hl (k := 0) rfl (by decide) (Nat.le_of_ble_eq_true rfl) (o := out) (by
            show (if nI k + 1 = nI (k + 1) then c_ticks su sc set n (nI k + 1) σ2 else none) = some out
            rw [if_pos (nI_1 k)]
            exact h) (fun y ls h hl => ?_)
          by_cases hy : y = nI (k + 1)
          · rw [if_pos hy] at h
            subst hy
            have hl : lv_has ls 3 [(2, .int (nI (k + 1))), (0, .ref b), (1, .int set)] := hl
            refine lv_goto hx hb dX1_ticksTo_30 (tgt := 2) (by decide) ?_
            exact ih (k + 1) σ2 G2 n2 H locs ls (by omega) (by omega) h (hsu.ext hx2) (hsc.ext hx2) (hgx.tr hx2) hG hl
          · rw [if_neg hy] at h
            cases h
        · have h := Option.some.inj h
          refine lv_iload_n hx hb dX1_ticksTo_21 rfl (lv_at hl 0 rfl) ?_
          exact hret _ _ _ _ _ (g_iret hQ' hG ⟨nI k, h.symm, rfl, σ, G1, hgx, rfl⟩ hroom2.1 hroom2.2 dX1_ticksTo_22)
  refine lv_iconst (v := 0) hx hb dX1_ticksTo_0 (by decide) ?_
  refine lv_istore_n hx hb dX1_ticksTo_1 rfl hl (Nat.le_of_ble_eq_true rfl) (lv' := [(2, .int 0), (0, .ref b), (1, .int set)]) rfl (fun ls hl => ?_)
  exact L 502 0 σ G0 sz H [] ls rfl (by decide) h hsu hsc gx_rfl hG hl
end TK
