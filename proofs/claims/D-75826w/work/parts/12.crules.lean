/-! rows over single cells, with the pure function's hypothesis threaded -/
def retB (v : Int32) : Option Int32 := if v.toInt8.toInt32 = v then some v else none
def retC (v : Int32) : Option Int32 := if (v.toUInt32 % 65536).toInt32 = v then some v else none
theorem retB_e {v r : Int32} (h : retB v = some r) : v = r ∧ narrow .byte (.int v) = .int v := by
  unfold retB at h
  split at h
  next hv => exact ⟨Option.some.inj h, by rw [← hv]; exact pk_nb v⟩
  next => cases h
theorem retC_e {v r : Int32} (h : retC v = some r) : v = r ∧ narrow .char (.int v) = .int v := by
  unfold retC at h
  split at h
  next hv => exact ⟨Option.some.inj h, by rw [← hv]; exact pk_nc v⟩
  next => cases h
theorem lw_F {own : String} {idx : Nat} {C : String} {x y : MethodName} {b : ByteArray} {L : Nat} {r : Option FieldType} (h1 : Cond.methodLink own idx x ∈ lw_all) (h2 : Cond.selects C x y ∈ lw_all) (h3 : Cond.instanceMethod y ∈ lw_all) (h4 : Cond.initialized y.cls ∈ lw_all) (h5 : Cond.code y b L r ∈ lw_all) : GoodIn lw_all (va_wsF own idx C x y (ws_ y b L r)) := by
  refine lw_app ?_ (lw_meth h5)
  intro w hw
  simp only [List.mem_cons, List.not_mem_nil, or_false] at hw
  rcases hw with e | e | e | e
  · rw [e]; exact h1
  · rw [e]; exact h2
  · rw [e]; exact h3
  · rw [e]; exact h4
section CR
variable {p : Program} {l : Launch} {e : Env} {R : Room} {s : State} {m : MethodId} {args : Array Value} {below : List Frame} {meth : Method} {c : Code} {H : Heap} {locs : List Loc} {cells slots : Nat} {Q : State → Prop}
variable {cc : ByteArray} {pc : Nat} {ls : Array Slot} {rest : List Value} {A : Nat → Prop} {a : Nat} {L0 n nL : Nat} {G : GH} {g : gNum} {own : String} {rm : Room} {γ : Type} {o : γ} {N : Nat} {i : Int32} {D : va_G} {cl : List vw_C} {RR : Option Value → GH → Nat → Prop} {mc ms : Nat}
theorem g_nret {ty : FieldType} (hQ : gQ p l e R s m args below meth c cc D cl L0 A RR mc ms (some ty) Q) (hG : gJ D cl L0 A s.heap G n H locs) {v : Int32} (hz : narrow ty (.int v) = .int v) (hR : RR (some (.int v)) G n) (hc : cells ≤ mc) (hs : slots ≤ ms) (hdg : decode cc pc = .ok (.ireturn, 1)) : W p l e R s m args below meth c H locs cells slots Q (F0 m pc ls [.int v]) := by
  obtain ⟨hx, hb, hr, hlk, G0, hA, hQe⟩ := hQ
  subst hQe
  subst hA
  refine W.widen hc hs ?_
  exact W.zret hx hb hr hz (fun t ht hW => gEnd_Q (G := G) (RR := RR) ⟨G, n, hR, hG⟩ ht) hG.2.2.1.2.2 hdg
theorem g_instS (hF : gXK p m c cc nL s args own g A R rm) (hG : gJK g L0 A s.heap G n H locs) {index ci : Nat} {q : vw_C} {fs : List Value} (he : G a = some (.inr (ci, fs))) (hc : clX[ci]? = some q) (hlink : (Cond.classLink own index q.1) ∈ lw_all) (hdg : decode cc pc = .ok (.instanceof index, 3))
    (k : W p l e R s m args below meth c H locs cells slots Q (F0 m (pc + 3) ls (.int 1 :: rest))) : W p l e R s m args below meth c H locs cells slots Q (F0 m pc ls (.ref a :: rest)) :=
  va_instS hF.1.1 hF.1.2.1 hF.1.2.2.2.1 (hF.1.2.2.2.2 _ hlink) (hF.2.1.1 ci q hc).2 (g_recv hF hG he hc) hdg k
theorem c_iald (hF : gXK p m c cc nL s args own g A R rm) (hG : gJK g L0 A s.heap G n H locs) {f : Nat → Int32} (he : G a = some (.inl (g.2.1 0, N, .inl f))) {F : Int32 → Option γ} (h : ob1 (rdF N f i) F = some o) (hdg : decode cc pc = .ok (.iaload, 1))
    (kk : ∀ v : Int32, F v = some o → W p l e R s m args below meth c H locs cells slots Q (F0 m (pc + 1) ls (.int v :: rest))) : W p l e R s m args below meth c H locs cells slots Q (F0 m pc ls (.int i :: .ref a :: rest)) := by
  obtain ⟨v, hv, h⟩ := ob1_e h
  obtain ⟨h1, rfl⟩ := rdF_e hv
  exact g_iald hF hG he 0 rfl h1 hdg (kk _ h)
theorem c_bald (hF : gXK p m c cc nL s args own g A R rm) (hG : gJK g L0 A s.heap G n H locs) {f : Nat → Int32} (he : G a = some (.inl (g.2.1 1, N, .inl f))) {F : Int32 → Option γ} (h : ob1 (rdF N f i) F = some o) (hdg : decode cc pc = .ok (.baload, 1))
    (kk : ∀ v : Int32, F v = some o → W p l e R s m args below meth c H locs cells slots Q (F0 m (pc + 1) ls (.int v :: rest))) : W p l e R s m args below meth c H locs cells slots Q (F0 m pc ls (.int i :: .ref a :: rest)) := by
  obtain ⟨v, hv, h⟩ := ob1_e h
  obtain ⟨h1, rfl⟩ := rdF_e hv
  exact g_bald hF hG he 1 rfl h1 hdg (kk _ h)
theorem c_aald (hF : gXK p m c cc nL s args own g A R rm) (hG : gJK g L0 A s.heap G n H locs) {cA : ClassId} {C : String} {f : Nat → Option Nat} (he : G a = some (.inl (cA, N, .inr (.inr (.inr (.inr f)))))) (t0 : Nat) (ht : (tyA g.2.1)[t0]? = some (cA, .object C)) {F : Option Nat → Option γ} (h : ob1 (rdF N f i) F = some o) (hdg : decode cc pc = .ok (.aaload, 1))
    (kk : ∀ v : Option Nat, F v = some o → W p l e R s m args below meth c H locs cells slots Q (F0 m (pc + 1) ls (va_rf v :: rest))) : W p l e R s m args below meth c H locs cells slots Q (F0 m pc ls (.int i :: .ref a :: rest)) := by
  obtain ⟨v, hv, h⟩ := ob1_e h
  obtain ⟨h1, rfl⟩ := rdF_e hv
  exact g_aald hF hG he t0 ht h1 hdg (kk _ h)
theorem updF {α : Type} {f : Nat → α} {k : Nat} {x : α} : (fun j => if j = k then x else f j) = (fun j => if j = k then x else f j) := rfl
theorem c_iast (hF : gXK p m c cc nL s args own g A R rm) (hG : gJK g L0 A s.heap G n H locs) {f : Nat → Int32} (he : G a = some (.inl (g.2.1 0, N, .inl f))) (hL : L0 ≤ a) {x : Int32} {F : (Nat → Int32) → Option γ} (h : ob1 (wrF N f i x) F = some o) (hdg : decode cc pc = .ok (.iastore, 1))
    (kk : ∀ (f' : Nat → Int32) (H1 : Heap) (locs1 : List Loc), F f' = some o → gJK g L0 A s.heap (gU G a (.inl (g.2.1 0, N, .inl f'))) n H1 locs1 → W p l e R s m args below meth c H1 locs1 cells slots Q (F0 m (pc + 1) ls rest)) : W p l e R s m args below meth c H locs cells slots Q (F0 m pc ls (.int x :: .int i :: .ref a :: rest)) := by
  obtain ⟨f', hv, h⟩ := ob1_e h
  obtain ⟨h1, rfl⟩ := wrF_e hv
  exact g_iast hF hG he hL 0 rfl h1 hdg (fun H1 locs1 hG1 => kk _ H1 locs1 h hG1)
theorem c_bast (hF : gXK p m c cc nL s args own g A R rm) (hG : gJK g L0 A s.heap G n H locs) {f : Nat → Int32} (he : G a = some (.inl (g.2.1 1, N, .inl f))) (hL : L0 ≤ a) {x : Int32} {F : (Nat → Int32) → Option γ} (h : ob1 (wrF N f i (vp_nar .byte x)) F = some o) (hdg : decode cc pc = .ok (.bastore, 1))
    (kk : ∀ (f' : Nat → Int32) (H1 : Heap) (locs1 : List Loc), F f' = some o → gJK g L0 A s.heap (gU G a (.inl (g.2.1 1, N, .inl f'))) n H1 locs1 → W p l e R s m args below meth c H1 locs1 cells slots Q (F0 m (pc + 1) ls rest)) : W p l e R s m args below meth c H locs cells slots Q (F0 m pc ls (.int x :: .int i :: .ref a :: rest)) := by
  obtain ⟨f', hv, h⟩ := ob1_e h
  obtain ⟨h1, rfl⟩ := wrF_e hv
  exact g_bast hF hG he hL 1 rfl h1 hdg (fun H1 locs1 hG1 => kk _ H1 locs1 h hG1)
theorem g_aastN (hF : gXK p m c cc nL s args own g A R rm) (hG : gJK g L0 A s.heap G n H locs) {cA : ClassId} {C : String} {f : Nat → Option Nat} (he : G a = some (.inl (cA, N, .inr (.inr (.inr (.inr f)))))) (hL : L0 ≤ a) (t0 : Nat) (ht : (tyA g.2.1)[t0]? = some (cA, .object C)) (hin : vp_in i N) (hdg : decode cc pc = .ok (.aastore, 1))
    (kk : ∀ (H1 : Heap) (locs1 : List Loc), gJK g L0 A s.heap (gU G a (.inl (cA, N, .inr (.inr (.inr (.inr (fun j => if j = i.toNatClampNeg then none else f j))))))) n H1 locs1 → W p l e R s m args below meth c H1 locs1 cells slots Q (F0 m (pc + 1) ls rest)) : W p l e R s m args below meth c H locs cells slots Q (F0 m pc ls (.null :: .int i :: .ref a :: rest)) := by
  obtain ⟨⟨hx, hb, -, hown, hts⟩, hK, -⟩ := hF
  refine va_WaastN (C := C) hx hb (hG.1 a _ he) ((hK.2 t0 _ ht).1 N (fun j => va_rf (f j))) (fun h => by cases h) (by show ¬ (i < 0 ∨ (arrV _ _ _).slots.size ≤ _); rw [arrV_size]; exact hin) rfl rfl hdg fun H1 e z oq => ?_
  refine kk H1 _ (hG.put he hL ?_ z oq)
  show H1[a]? = some (vp_cell _ _)
  rw [e]
  rw [vp_cell_q, vp_cell_q, arrV_store]
  congr 2
  funext q
  by_cases hq : q = i.toNatClampNeg
  · subst hq
    simp [updV, va_rf]
  · simp [updV, hq]
theorem g_aastO (hF : gXK p m c cc nL s args own g A R rm) (hG : gJK g L0 A s.heap G n H locs) {cA : ClassId} {E : String} {f : Nat → Option Nat} (he : G a = some (.inl (cA, N, .inr (.inr (.inr (.inr f)))))) (hL : L0 ≤ a) (t0 : Nat) (ht : (tyA g.2.1)[t0]? = some (cA, .object E)) {v ci : Nat} {fs : List Value} {r : vw_C} (hv : G v = some (.inr (ci, fs))) (hc : clX[ci]? = some r) (hw : r.1 = E ∨ (Cond.castable r.1 E) ∈ lw_tbl) (hin : vp_in i N) (hdg : decode cc pc = .ok (.aastore, 1))
    (kk : ∀ (H1 : Heap) (locs1 : List Loc), gJK g L0 A s.heap (gU G a (.inl (cA, N, .inr (.inr (.inr (.inr (fun j => if j = i.toNatClampNeg then some v else f j))))))) n H1 locs1 → W p l e R s m args below meth c H1 locs1 cells slots Q (F0 m (pc + 1) ls rest)) : W p l e R s m args below meth c H locs cells slots Q (F0 m pc ls (.ref v :: .int i :: .ref a :: rest)) := by
  have hcast : r.1 = E ∨ va_Nw (.castable r.1 E) s := hw.imp id (fun h => hF.nw h rfl)
  obtain ⟨⟨hx, hb, -, hown, hts⟩, hK, -⟩ := hF
  have hlt : i.toNatClampNeg < N := Nat.not_le.mp fun q => hin (Or.inr q)
  have h0 : ¬ i < 0 := fun q => hin (Or.inl q)
  obtain ⟨r', hr', cellV, g1, g2, g3, -⟩ := hG.1 v _ hv
  have hcls := (hK.1 ci r hc).2
  obtain ⟨kA, comp, k1, k2, k3, -⟩ := (hK.2 t0 _ ht).2
  obtain ⟨kE, hkE, -⟩ := Vm.findClass_spec k3
  have hasg : s.vm.assignable (g.1.1 ci) comp = true := by
    rcases hcast with h1 | h1
    · subst h1
      cases k3.symm.trans hcls.1
      exact va_assign hcls
    · obtain ⟨c0, t1, f1, f2, f3⟩ := Cond.castable_spec (va_Nw.use (A := args) rfl h1)
      cases hcls.1.symm.trans f1
      cases k3.symm.trans f2
      exact f3
  obtain ⟨kC, hkC, -⟩ := hcls.2
  refine W.aast hx hb (hG.1 a _ he) (fun q h => by cases h) (fun h => by cases h) k1 k2 rfl hkE ⟨h0, by show _ < (arrV _ _ _).slots.size; rw [arrV_size]; exact hlt⟩ g1 (fun q h => by rw [g3] at h; cases h) (by rw [g2]; exact hkC) (by rw [g2]; exact hasg) rfl rfl hdg fun H1 e z oq => ?_
  refine kk H1 _ (hG.put he hL ?_ z oq)
  show H1[a]? = some (vp_cell _ _)
  rw [e]
  rw [vp_cell_q, vp_cell_q, arrV_store]
  congr 2
  funext q
  by_cases hq : q = i.toNatClampNeg
  · subst hq
    simp [updV, va_rf]
  · simp [updV, hq]
theorem c_aastN (hF : gXK p m c cc nL s args own g A R rm) (hG : gJK g L0 A s.heap G n H locs) {cA : ClassId} {C : String} {f : Nat → Option Nat} (he : G a = some (.inl (cA, N, .inr (.inr (.inr (.inr f)))))) (hL : L0 ≤ a) (t0 : Nat) (ht : (tyA g.2.1)[t0]? = some (cA, .object C)) {F : (Nat → Option Nat) → Option γ} (h : ob1 (wrF N f i none) F = some o) (hdg : decode cc pc = .ok (.aastore, 1))
    (kk : ∀ (f' : Nat → Option Nat) (H1 : Heap) (locs1 : List Loc), F f' = some o → gJK g L0 A s.heap (gU G a (.inl (cA, N, .inr (.inr (.inr (.inr f')))))) n H1 locs1 → W p l e R s m args below meth c H1 locs1 cells slots Q (F0 m (pc + 1) ls rest)) : W p l e R s m args below meth c H locs cells slots Q (F0 m pc ls (.null :: .int i :: .ref a :: rest)) := by
  obtain ⟨f', hv, h⟩ := ob1_e h
  obtain ⟨h1, rfl⟩ := wrF_e hv
  exact g_aastN hF hG he hL t0 ht h1 hdg (fun H1 locs1 hG1 => kk _ H1 locs1 h hG1)
theorem c_aastO (hF : gXK p m c cc nL s args own g A R rm) (hG : gJK g L0 A s.heap G n H locs) {cA : ClassId} {E : String} {f : Nat → Option Nat} (he : G a = some (.inl (cA, N, .inr (.inr (.inr (.inr f)))))) (hL : L0 ≤ a) (t0 : Nat) (ht : (tyA g.2.1)[t0]? = some (cA, .object E)) {v ci : Nat} {fs : List Value} {r : vw_C} (hv : G v = some (.inr (ci, fs))) (hc : clX[ci]? = some r) (hw : (Cond.castable r.1 E) ∈ lw_tbl) {F : (Nat → Option Nat) → Option γ} (h : ob1 (wrF N f i (some v)) F = some o) (hdg : decode cc pc = .ok (.aastore, 1))
    (kk : ∀ (f' : Nat → Option Nat) (H1 : Heap) (locs1 : List Loc), F f' = some o → gJK g L0 A s.heap (gU G a (.inl (cA, N, .inr (.inr (.inr (.inr f')))))) n H1 locs1 → W p l e R s m args below meth c H1 locs1 cells slots Q (F0 m (pc + 1) ls rest)) : W p l e R s m args below meth c H locs cells slots Q (F0 m pc ls (.ref v :: .int i :: .ref a :: rest)) := by
  obtain ⟨f', hv2, h⟩ := ob1_e h
  obtain ⟨h1, rfl⟩ := wrF_e hv2
  exact g_aastO hF hG he hL t0 ht hv hc (Or.inr hw) h1 hdg (fun H1 locs1 hG1 => kk _ H1 locs1 h hG1)
end CR
section CQ
variable {p : Program} {l : Launch} {e : Env} {R : Room} {s : State} {m : MethodId} {args : Array Value} {below : List Frame} {meth : Method} {c : Code} {H : Heap} {locs : List Loc} {cells slots : Nat} {Q : State → Prop}
variable {cc : ByteArray} {pc : Nat} {ls : Array Slot} {rest : List Value} {nL : Nat} {lv lv' : List (Nat × Value)}
theorem lv_astore_nQ (hx : p.tables.exec = Jvm.exec) (hb : c.code = cc) {k : Fin 4} {i : Nat} {q : Option Nat} (hdg : decode cc pc = .ok (.astore_n k, 1)) (hi : (k : Nat) = i) (h : lv_has ls nL lv) (hn : i < nL) (hl : (i, va_rf q) :: lv.filter (fun q => !(q.1 == i) && !(q.1 + 1 == i && q.2.category == 2)) = lv')
    (kk : ∀ ls' : Array Slot, lv_has ls' nL lv' → W p l e R s m args below meth c H locs cells slots Q (F0 m (pc + 1) ls' rest)) : W p l e R s m args below meth c H locs cells slots Q (F0 m pc ls (va_rf q :: rest)) := by
  cases q with
  | none => exact lv_astore_nN hx hb hdg hi h hn hl kk
  | some a => exact lv_astore_n hx hb hdg hi h hn hl kk
theorem lv_astoreQ (hx : p.tables.exec = Jvm.exec) (hb : c.code = cc) {i : Nat} {q : Option Nat} (hdg : decode cc pc = .ok (.astore i, 2)) (h : lv_has ls nL lv) (hn : i < nL) (hl : (i, va_rf q) :: lv.filter (fun q => !(q.1 == i) && !(q.1 + 1 == i && q.2.category == 2)) = lv')
    (kk : ∀ ls' : Array Slot, lv_has ls' nL lv' → W p l e R s m args below meth c H locs cells slots Q (F0 m (pc + 2) ls' rest)) : W p l e R s m args below meth c H locs cells slots Q (F0 m pc ls (va_rf q :: rest)) := by
  cases q with
  | none => exact lv_astoreN hx hb hdg h hn hl kk
  | some a => exact lv_astore hx hb hdg h hn hl kk
theorem lv_aload_nQ (hx : p.tables.exec = Jvm.exec) (hb : c.code = cc) {k : Fin 4} {i : Nat} {q : Option Nat} (hdg : decode cc pc = .ok (.aload_n k, 1)) (hi : (k : Nat) = i) (hl : ls[i]? = some (.val (va_rf q)))
    (kk : W p l e R s m args below meth c H locs cells slots Q (F0 m (pc + 1) ls (va_rf q :: rest))) : W p l e R s m args below meth c H locs cells slots Q (F0 m pc ls rest) := by
  cases q with
  | none => exact lv_aload_nN hx hb hdg hi hl kk
  | some a => exact lv_aload_n hx hb hdg hi hl kk
theorem lv_aloadQ (hx : p.tables.exec = Jvm.exec) (hb : c.code = cc) {i : Nat} {q : Option Nat} (hdg : decode cc pc = .ok (.aload i, 2)) (hl : ls[i]? = some (.val (va_rf q)))
    (kk : W p l e R s m args below meth c H locs cells slots Q (F0 m (pc + 2) ls (va_rf q :: rest))) : W p l e R s m args below meth c H locs cells slots Q (F0 m pc ls rest) := by
  cases q with
  | none => exact lv_aloadN hx hb hdg hl kk
  | some a => exact lv_aload hx hb hdg hl kk
theorem va_rf_cat (q : Option Nat) : (va_rf q).category = 1 := by cases q <;> rfl
theorem gb_ifnull (hx : p.tables.exec = Jvm.exec) (hb : c.code = cc) {q : Option Nat} {off : Int} {tgt : Nat} (hdg : decode cc pc = .ok (.ifnull off, 3)) (ht : (pc : Int) + off = (tgt : Int)) {γ : Type} {P : Option γ} {f : Nat → Option γ} {o : γ} (h : oq q P f = some o) (kt : q = none → P = some o → W p l e R s m args below meth c H locs cells slots Q (F0 m tgt ls rest)) (kf : ∀ a, q = some a → f a = some o → W p l e R s m args below meth c H locs cells slots Q (F0 m (pc + 3) ls rest)) : W p l e R s m args below meth c H locs cells slots Q (F0 m pc ls (va_rf q :: rest)) := by
  cases q with
  | none => exact lv_ifnullN hx hb hdg ht (kt rfl h)
  | some a => exact lv_ifnull hx hb hdg (kf a rfl h)
theorem gb_ifnonnull (hx : p.tables.exec = Jvm.exec) (hb : c.code = cc) {q : Option Nat} {off : Int} {tgt : Nat} (hdg : decode cc pc = .ok (.ifnonnull off, 3)) (ht : (pc : Int) + off = (tgt : Int)) {γ : Type} {P : Option γ} {f : Nat → Option γ} {o : γ} (h : oq q P f = some o) (kt : ∀ a, q = some a → f a = some o → W p l e R s m args below meth c H locs cells slots Q (F0 m tgt ls rest)) (kf : q = none → P = some o → W p l e R s m args below meth c H locs cells slots Q (F0 m (pc + 3) ls rest)) : W p l e R s m args below meth c H locs cells slots Q (F0 m pc ls (va_rf q :: rest)) := by
  cases q with
  | none => exact lv_ifnonnullN hx hb hdg (kf rfl h)
  | some a => exact lv_ifnonnull hx hb hdg ht (kt a rfl h)
end CQ
