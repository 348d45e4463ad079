/-! exceptions in the G-layer -/
def exN : Nat → String | 1 => "java/lang/IllegalArgumentException" | 2 => "java/lang/IllegalStateException" | 3 => "java/lang/IndexOutOfBoundsException" | _ => "java/util/NoSuchElementException"
def exS : List String := ["java/lang/RuntimeException", "java/lang/Exception"]
def exI : Nat → Nat | 1 => 5 | 2 => 11 | 3 => 14 | _ => 17
def ex_ok (own : String) (ic : Nat) (cls : String) (names : List String) : Bool := (vx_at0 own ic cls names).all (fun w => (goodWord w && decide (w ∈ lw_all)) || (w.onTables && gNk w && decide (w ∈ lw_tbl)))
theorem ex_ok1 : ex_ok "BlackoutStart" 5 (exN 1) exS = true := by decide +kernel
theorem ex_ok2 : ex_ok "BlackoutStart" 11 (exN 2) exS = true := by decide +kernel
theorem ex_ok3 : ex_ok "BlackoutStart" 14 (exN 3) exS = true := by decide +kernel
theorem ex_ok4 : ex_ok "BlackoutStart" 17 (exN 4) exS = true := by decide +kernel
def gXT (D : va_G) (cl : List vw_C) (L0 : Nat) (G : GH) (sz : Nat) (RT : String → Addr → GH → Prop) : String → Addr → State → State → Prop := fun E q st t => (∃ G', RT E q G' ∧ ∀ a e, G' a = some e → va_at D cl (a, e) t.heap ∧ (L0 ≤ a → gA L0 G sz a)) ∧ va_F (gA L0 G sz) st t
/-- a contract of a method that returns or throws -/
def gMetX (l : Launch) (y : MethodName) (ws : List Cond) (D : va_G) (cl : List vw_C) (L0 : Nat) (K : gKT) (av : List Value) (G : GH) (sz fr lo mc ms : Nat) (RR : Option Value → GH → Nat → Prop) (RT : String → Addr → GH → Prop) : Prop :=
  vx_Met l y ws ({ frames := fr, cells := mc, slots := ms, locals := lo } : Room) (gPc D cl L0 K av G sz) (gQc D cl L0 G sz RR) (gXT D cl L0 G sz RT) mc ms (gA L0 G sz)
def gQX (p : Program) (l : Launch) (e : Env) (R : Room) (s : State) (m : MethodId) (args : Array Value) (below : List Frame) (meth : Method) (c : Code) (cc : ByteArray) (D : va_G) (cl : List vw_C) (L0 : Nat) (A : Nat → Prop) (RR : Option Value → GH → Nat → Prop) (RT : String → Addr → GH → Prop) (mc ms : Nat) (ret : Option FieldType) (Q : State → Prop) : Prop :=
  p.tables.exec = Jvm.exec ∧ c.code = cc ∧ meth.sig.returnType = ret ∧ meth.locks = false ∧ ∃ G0 : GH, A = gA L0 G0 s.heap.size ∧ Q = vx_MQ below (gQc D cl L0 G0 s.heap.size RR) (gXT D cl L0 G0 s.heap.size RT) args s mc ms A
theorem zq_of {C n d : String} {v : Option Nat} {A : Nat → Prop} {U : State} {H : Heap} (h : va_Z C n d (va_rf v) A U H) : va_Zq C n d A U H := by
  cases v with
  | none => exact Or.inl h
  | some t => exact Or.inr ⟨t, h⟩
section GXX
variable {p : Program} {l : Launch} {e : Env} {R : Room} {s : State} {m : MethodId} {args : Array Value} {below : List Frame} {meth : Method} {c : Code} {H : Heap} {locs : List Loc} {cells slots : Nat} {Q : State → Prop}
variable {cc : ByteArray} {pc : Nat} {ls : Array Slot} {rest : List Value} {A : Nat → Prop} {a : Nat} {L0 n nL : Nat} {G : GH} {g : gNum} {own : String} {rm : Room} {RR : Option Value → GH → Nat → Prop} {RT : String → Addr → GH → Prop} {mc ms : Nat} {ret : Option FieldType}
theorem gx_ret {D : va_G} {cl : List vw_C} (hQ : gQX p l e R s m args below meth c cc D cl L0 A RR RT mc ms ret Q) : ∃ Q', gQ p l e R s m args below meth c cc D cl L0 A RR mc ms ret Q' ∧ ∀ (H : Heap) (locs : List Loc) (cells slots : Nat) (f : JFrame), W p l e R s m args below meth c H locs cells slots Q' f → W p l e R s m args below meth c H locs cells slots Q f := by
  obtain ⟨hx, hb, hr, hlk, G0, hA, hQe⟩ := hQ
  subst hQe
  exact ⟨_, ⟨hx, hb, hr, hlk, G0, hA, rfl⟩, fun H locs cells slots f k => vx_ret k⟩
theorem ex_hat (hF : gXK p m c cc nL s args own g A R rm) {ic : Nat} {cls : String} {names : List String} (h : ex_ok own ic cls names = true) : ∀ w ∈ vx_at0 own ic cls names, w.before args s = true ∧ vx_ot w = true := by
  intro w hw
  have h1 := List.all_eq_true.mp h w hw
  simp only [Bool.or_eq_true, Bool.and_eq_true, decide_eq_true_eq] at h1
  rcases h1 with ⟨h2, h3⟩ | ⟨⟨h2, h3⟩, h4⟩
  · exact ⟨hF.1.2.2.2.2 w h3, by unfold vx_ot; rw [h2, Bool.or_true]⟩
  · exact ⟨va_Nw.use h2 (hF.nw h4 h3), by unfold vx_ot; rw [h2, Bool.true_or]⟩
theorem gx_thr {D : va_G} {cl : List vw_C} {G0 : GH} (hG : gJ D cl L0 A s.heap G n H locs) (hA : A = gA L0 G0 s.heap.size) {E : String} {q : Addr} {G1 : GH} {t : State} (hR : RT E q G1) (h1 : ∀ a e, G1 a = some e → G a = some e ∨ (s.heap.size ≤ a ∧ va_at D cl (a, e) t.heap)) (hz : H.size ≤ t.heap.size) (hq : ∀ q : Nat, q < H.size → t.heap[q]? = H[q]?) : gXT D cl L0 G0 s.heap.size RT E q s t := by
  subst hA
  obtain ⟨q1, q2, q3, q4, q5⟩ := hG
  refine ⟨⟨G1, hR, fun a e he => ?_⟩, Nat.le_trans q3.1 hz, fun a h2 h3 => ?_⟩
  · rcases h1 a e he with h2 | ⟨h2, h3⟩
    · exact ⟨(q1 a e h2).kept (hq a (q1 a e h2).lt), fun hl => q2 a e h2 hl⟩
    · exact ⟨h3, fun _ => q4 a h2⟩
  · rw [hq a (Nat.lt_of_lt_of_le h2 q3.1)]
    exact q3.2.1 a h2 h3
/-- 'throw new E()' with a class of the JDK's, and no handler here -/
theorem g_throw0 (hst : l.stackTraces = false) (hF : gXK p m c cc nL s args own g A R rm) (hQ : gQX p l e R s m args below meth c cc g.1 clX L0 A RR RT mc ms ret Q) (hnt : ∀ x ∈ c.exceptionTable.toList, False) (hG : gJK g L0 A s.heap G n H locs) {lv : List (Nat × Value)} (hl : lv_has ls nL lv) {ik ic : Nat} {cls : String} {names : List String} (h : ex_ok own ic cls names = true) (hfit : Bundle.fit cls = true ∧ ∀ n ∈ names, Bundle.fit n = true) (hk : (Cond.classLink own ik cls) ∈ lw_all) (hi : (Cond.initialized cls) ∈ lw_all) (hR : ∀ q, RT cls q G)
    (d0 : decode cc pc = .ok (.new ik, 3)) (d3 : decode cc (pc + 3) = .ok (.dup, 1)) (d4 : decode cc (pc + 4) = .ok (.invokespecial ic, 3)) (d7 : decode cc (pc + 7) = .ok (.athrow, 1))
    (hr1 : names.length + 3 < rm.frames) (hr2 : (rest.map fun v => v.category).sum + (13 * (names.length + 1) + 42) ≤ rm.locals) (hr3 : cells + 1 ≤ rm.cells ∧ slots + 6 ≤ rm.slots) (hc : cells + 1 ≤ mc) (hs : slots + 6 ≤ ms) : W p l e R s m args below meth c H locs cells slots Q (F0 m pc ls rest) := by
  obtain ⟨hx, hb, hr, hlk, G0, hA, hQe⟩ := hQ
  subst hQe
  have hat := ex_hat hF h
  have hZ := hF.2.2.2.1.2.2.2.2.2.1
  have hRr : R = rm := hF.2.2.2.2
  refine vx_throw0 hx hb hst (A := A) hF.1.2.2.2.1 hfit.1 hfit.2 (hF.1.2.2.2.2 _ hk) (hF.1.2.2.2.2 _ hi) (fun w hw => (hat w hw).1) (fun w hw => ?_) ⟨?_, (hZ _ (List.mem_of_getElem? (i := 3) rfl)).2⟩ ⟨?_, (hZ _ (List.mem_of_getElem? (i := 4) rfl)).2⟩ hG.2.2.1 (by rw [hl.1, hF.1.2.2.1]) d0 d3 d4 d7 (fun x hx => absurd (hnt x hx) not_false) (by rw [hRr]; exact hr1) (by rw [hRr]; exact hr2) (by rw [hRr]; exact hr3.1) (by rw [hRr]; exact hr3.2) hlk (fun t _ h1 h2 q9 => gx_thr hG hA (hR q9) (fun a e h => Or.inl h) h1 h2) hG.2.2.1.2.2 hc hs
  · rcases List.mem_cons.mp hw with rfl | hw
    · rfl
    · rcases List.mem_cons.mp hw with rfl | hw
      · rfl
      · exact (hat w hw).2
  · exact zq_of (hZ _ (List.mem_of_getElem? (i := 3) rfl)).1
  · exact zq_of (hZ _ (List.mem_of_getElem? (i := 4) rfl)).1
/-- a call that may throw -/
theorem gx_call {D : va_G} {cl : List vw_C} {st0 : List Value} {aa : Array Value} (hr : vx_Run p l e R s m args below meth c H locs cells slots mc ms (F0 m pc ls st0) rest (gQc D cl L0 G n RR aa) (gXT D cl L0 G n RT) (gA L0 G n)) (hG : gJ D cl L0 A s.heap G n H locs)
    (kx : ∀ (E : String) (q : Addr) (ce : Cell) (G' : GH) (n' : Nat) (H' : Heap) (locs' : List Loc), RT E q G' → gJ D cl L0 A s.heap G' n' H' locs' → H'[q]? = some ce → ce.vm = .none → s.vm.findClass E = some ce.cls → vx_W p l e R s m args below meth c H' locs' (cells + mc) (slots + ms) Q (F0 m pc ls rest) q)
    (kk : ∀ (v : Option Value) (G' : GH) (n' : Nat) (H' : Heap) (locs' : List Loc), RR v G' n' → gJ D cl L0 A s.heap G' n' H' locs' → W p l e R s m args below meth c H' locs' (cells + mc) (slots + ms) Q (F0 m (pc + 3) ls (v.toList ++ rest))) : W p l e R s m args below meth c H locs cells slots Q (F0 m pc ls st0) := by
  intro T hT X
  have key : ∀ (st₀ t T' : State) (L : List Loc) (G' : GH), st₀.heap = H → T'.heap = t.heap → (∀ q ∈ L, gA L0 G n q.base) → va_F (gA L0 G n) st₀ t → (∀ a e, G' a = some e → va_at D cl (a, e) t.heap ∧ (L0 ≤ a → gA L0 G n a)) → gJ D cl L0 A s.heap G' t.heap.size T'.heap (locs ++ L) := by
    intro st₀ t T' L G' h0 e1 hL hF hat
    obtain ⟨hz, hk⟩ := hF
    rw [h0] at hz hk
    obtain ⟨q1, q2, q3, q4, q5⟩ := hG
    have hsub : ∀ q, gA L0 G n q → A q := fun q hq => by
      rcases hq with ⟨h5, e5, h6⟩ | h5
      · exact q2 q e5 h6 h5
      · exact q4 q (Nat.le_trans q3.1 (by rw [q5]; exact h5))
    rw [e1]
    refine ⟨fun b e' hb => (hat b e' hb).1, fun b e' hb hl => hsub b ((hat b e' hb).2 hl), ⟨Nat.le_trans q3.1 hz, fun q h1 h2 => ?_, fun q hq => ?_⟩, q4, rfl⟩
    · rw [hk q (Nat.lt_of_lt_of_le h1 q3.1) (fun z => h2 (hsub q z))]
      exact q3.2.1 q h1 h2
    · rcases List.mem_append.mp hq with h | h
      · exact q3.2.2 q h
      · exact hsub _ (hL q h)
  rcases hr T hT X with ⟨v, st₀, t, T', L, h0, X', hL, e1, e2, ⟨⟨v', G', hv, hRR, hat⟩, hF⟩, st⟩ | ⟨q, st₀, t, T', L, E, ce, h0, X', hL, e1, e2, ⟨⟨G', hRT, hat⟩, hF⟩, hce, hcv, hcl, st⟩
  · cases hv
    obtain ⟨t2, a1, b1⟩ := kk v G' _ T'.heap (locs ++ L) hRR (key st₀ t T' L G' h0 e1 hL hF hat) T' rfl X'
    exact ⟨t2, st t2 a1, b1⟩
  · obtain ⟨t2, a1, b1⟩ := kx E q ce G' _ T'.heap (locs ++ L) hRT (key st₀ t T' L G' h0 e1 hL hF hat) (by rw [e1]; exact hce) hcv hcl T' rfl X'
    exact ⟨t2, st.trans a1, b1⟩
/-- what is thrown goes on to the caller -/
theorem gx_out (hQ : gQX p l e R s m args below meth c cc g.1 clX L0 A RR RT mc ms ret Q) (hnt : ∀ x ∈ c.exceptionTable.toList, covers x pc = false) (hG : gJK g L0 A s.heap G n H locs) {E : String} {q : Addr} {ce : Cell} (hR : RT E q G) (hce : H[q]? = some ce) (hcv : ce.vm = .none) (hcl : s.vm.findClass E = some ce.cls) (hc : cells ≤ mc) (hs : slots ≤ ms) : vx_W p l e R s m args below meth c H locs cells slots Q (F0 m pc ls rest) q := by
  obtain ⟨hx, hb, hr, hlk, G0, hA, hQe⟩ := hQ
  subst hQe
  exact vx_out hnt hlk hce hcv hcl (fun t ht _ => gx_thr hG hA hR (fun a e h => Or.inl h) (by rw [ht]; exact Nat.le_refl _) (fun q _ => by rw [ht])) hG.2.2.1.2.2 hc hs
variable {y : MethodName} {bytes : ByteArray} {maxL k index fr lo : Nat} {ws : List Cond} {As st0 : List Value} {lv : List (Nat × Value)}
theorem gx_callV (hF : gXK p m c cc nL s args own g A R rm) (hG : gJK g L0 A s.heap G n H locs) (hl : lv_has ls nL lv) {C : String} {T : u_T} {N ci : Nat} {fs : List Value} (he : G a = some (.inr (ci, fs))) (hc : clX[ci]? = some (C, T, N)) (hM : gMetX l y ws g.1 clX L0 (gK g) (.ref a :: As) G n fr lo mc ms RR RT) (cw : CallW R s args own C index y bytes maxL ret ws ({ frames := fr, cells := mc, slots := ms, locals := lo } : Room) mc ms k) (hn : As.length = k) (hstack : st0 = As.reverse ++ .ref a :: rest) (hW : (rest.map fun v => v.category).sum ≤ 8) (hdg : decode cc pc = .ok (.invokevirtual index, 3)) (hf : cells + mc ≤ R.cells ∧ slots + ms ≤ R.slots)
    (kx : ∀ (E : String) (q : Addr) (ce : Cell) (G' : GH) (n' : Nat) (H' : Heap) (locs' : List Loc), RT E q G' → gJK g L0 A s.heap G' n' H' locs' → H'[q]? = some ce → ce.vm = .none → s.vm.findClass E = some ce.cls → vx_W p l e R s m args below meth c H' locs' (cells + mc) (slots + ms) Q (F0 m pc ls rest) q)
    (kk : ∀ (v : Option Value) (G' : GH) (n' : Nat) (H' : Heap) (locs' : List Loc), RR v G' n' → gJK g L0 A s.heap G' n' H' locs' → W p l e R s m args below meth c H' locs' (cells + mc) (slots + ms) Q (F0 m (pc + 3) ls (v.toList ++ rest))) : W p l e R s m args below meth c H locs cells slots Q (F0 m pc ls st0) :=
  gx_call (vx_runV hF.1 hM cw ⟨gPc_blind hF.2.2.1, g_recv hF hG he hc, g_pre hF hG _⟩ rfl hn hl.1 hstack (lv_room hW) hdg hf) hG kx kk
theorem gx_callS (hF : gXK p m c cc nL s args own g A R rm) (hG : gJK g L0 A s.heap G n H locs) (hl : lv_has ls nL lv) (hM : gMetX l y ws g.1 clX L0 (gK g) As G n fr lo mc ms RR RT) (cw : CallB R s args own index y bytes maxL ret ws ({ frames := fr, cells := mc, slots := ms, locals := lo } : Room) mc ms k ∧ (Cond.static y).before args s = true) (hn : As.length = k) (hstack : st0 = As.reverse ++ rest) (hW : (rest.map fun v => v.category).sum ≤ 8) (hdg : decode cc pc = .ok (.invokestatic index, 3)) (hf : cells + mc ≤ R.cells ∧ slots + ms ≤ R.slots)
    (kx : ∀ (E : String) (q : Addr) (ce : Cell) (G' : GH) (n' : Nat) (H' : Heap) (locs' : List Loc), RT E q G' → gJK g L0 A s.heap G' n' H' locs' → H'[q]? = some ce → ce.vm = .none → s.vm.findClass E = some ce.cls → vx_W p l e R s m args below meth c H' locs' (cells + mc) (slots + ms) Q (F0 m pc ls rest) q)
    (kk : ∀ (v : Option Value) (G' : GH) (n' : Nat) (H' : Heap) (locs' : List Loc), RR v G' n' → gJK g L0 A s.heap G' n' H' locs' → W p l e R s m args below meth c H' locs' (cells + mc) (slots + ms) Q (F0 m (pc + 3) ls (v.toList ++ rest))) : W p l e R s m args below meth c H locs cells slots Q (F0 m pc ls st0) :=
  gx_call (vx_runS hF.1 hM cw ⟨gPc_blind hF.2.2.1, g_pre hF hG _⟩ rfl hn hl.1 hstack (lv_room hW) hdg hf) hG kx kk
end GXX
/-- a contract that may throw, out of a walk -/
theorem gMetX.of {l : Launch} {y : MethodName} {D : va_G} {cl : List vw_C} {tys : List (ClassId × FieldType)} {L0 : Nat} {K : gKT} {av : List Value} {G : GH} {sz fr lo mc ms : Nat} {RR : Option Value → GH → Nat → Prop} {RT : String → Addr → GH → Prop} {cc : ByteArray} {maxL : Nat} {ret : Option FieldType} {own : String} (hKo : gKo D cl tys K) (hy : plainName y.cls = true) (hlen : (lg_sl av).length ≤ maxL) (hown : y.cls = own)
    (body : ∀ p e R s m args below meth c A Q ls H, gX p m c cc maxL s args own D cl tys K A R ({ frames := fr, cells := mc, slots := ms, locals := lo } : Room) → gQX p l e R s m args below meth c cc D cl L0 A RR RT mc ms ret Q → (∀ x ∈ c.exceptionTable.toList, False) → gJ D cl L0 A s.heap G sz H [] → lv_has ls maxL (lv_args 0 av) → W p l e R s m args below meth c H [] 0 0 Q (F0 m 0 ls [])) : gMetX l y (ws_ y cc maxL ret) D cl L0 K av G sz fr lo mc ms RR RT := by
  refine vx_ofW (cc := cc) (maxL := maxL) (ret := ret) hy rfl ?_
  intro p e s m args below meth c s₁ B hml hnt hv
  obtain ⟨rfl, hsz, hK, hat⟩ := hv
  subst hsz
  have hts := atoms_spec (ws := ws_ y cc maxL ret) B.pre
  have hts : ∀ w ∈ lw_all, w.before _ s = true := fun w h => hts w (List.mem_cons_of_mem _ h)
  have hfc : s.vm.findClass own = some m.cls := by rw [← hown]; exact findClass_of_methodNamed B.named
  have hl := lv_entry av (n := maxL) hlen
  rw [lg_entry_eq]
  exact body p e _ s m _ below meth c (gA L0 G s.heap.size) _ _ s.heap ⟨⟨B.exec, B.bytes, hml, hfc, hts⟩, hKo.2 _ _ _ hK, hKo, hK, rfl⟩ ⟨B.exec, B.bytes, B.returns, B.notSynchronized, G, rfl, rfl⟩ hnt ⟨hat, fun a e h hl => Or.inl ⟨hl, e, h⟩, va_S.rf, fun q h => Or.inr h, rfl⟩ hl
