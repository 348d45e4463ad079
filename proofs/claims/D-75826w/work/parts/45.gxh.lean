/-! methods with handlers, in the G-layer -/
theorem gMetX.ofH {l : Launch} {y : MethodName} {D : va_G} {cl : List vw_C} {tys : List (ClassId × FieldType)} {L0 : Nat} {K : gKT} {av : List Value} {G : GH} {sz fr lo mc ms : Nat} {RR : Option Value → GH → Nat → Prop} {RT : String → Addr → GH → Prop} {cc : ByteArray} {maxL : Nat} {ret : Option FieldType} {own : String} {hh : List (Nat × Nat × Nat × Nat)} (hKo : gKo D cl tys K) (hy : plainName y.cls = true) (hlen : (lg_sl av).length ≤ maxL) (hown : y.cls = own)
    (body : ∀ p e R s m args below meth c A Q ls H, gX p m c cc maxL s args own D cl tys K A R ({ frames := fr, cells := mc, slots := ms, locals := lo } : Room) → gQX p l e R s m args below meth c cc D cl L0 A RR RT mc ms ret Q → c.exceptionTable.toList = tableOf hh → gJ D cl L0 A s.heap G sz H [] → lv_has ls maxL (lv_args 0 av) → W p l e R s m args below meth c H [] 0 0 Q (F0 m 0 ls [])) : gMetX l y (wsW_ y cc maxL ret hh) D cl L0 K av G sz fr lo mc ms RR RT := by
  refine vx_ofWH (cc := cc) (maxL := maxL) (ret := ret) (hh := hh) hy rfl ?_
  intro p e s m args below meth c s₁ B hml hv
  obtain ⟨rfl, hsz, hK, hat⟩ := hv
  subst hsz
  have hts0 := atoms_spec (ws := wsW_ y cc maxL ret hh) B.pre
  have hts : ∀ w ∈ lw_all, w.before _ s = true := fun w h => hts0 w (List.mem_cons_of_mem _ h)
  have hfc : s.vm.findClass own = some m.cls := by rw [← hown]; exact findClass_of_methodNamed B.named
  have hl := lv_entry av (n := maxL) hlen
  have htab := vx_table (x := y) B (hts0 _ List.mem_cons_self)
  rw [lg_entry_eq]
  exact body p e _ s m _ below meth c (gA L0 G s.heap.size) _ _ s.heap ⟨⟨B.exec, B.bytes, hml, hfc, hts⟩, hKo.2 _ _ _ hK, hKo, hK, rfl⟩ ⟨B.exec, B.bytes, B.returns, B.notSynchronized, G, rfl, rfl⟩ htab ⟨hat, fun a e h hl => Or.inl ⟨hl, e, h⟩, va_S.rf, fun q h => Or.inr h, rfl⟩ hl
section GXH
variable {p : Program} {l : Launch} {e : Env} {R : Room} {s : State} {m : MethodId} {args : Array Value} {below : List Frame} {meth : Method} {c : Code} {H : Heap} {locs : List Loc} {cells slots : Nat} {Q : State → Prop}
variable {cc : ByteArray} {pc : Nat} {ls : Array Slot} {rest : List Value} {A : Nat → Prop} {a : Nat} {L0 n nL : Nat} {G : GH} {g : gNum} {own : String} {rm : Room} {RR : Option Value → GH → Nat → Prop} {RT : String → Addr → GH → Prop} {mc ms : Nat} {ret : Option FieldType}
theorem g_nc (hF : gXK p m c cc nL s args own g A R rm) {E name : String} (h : (E, name) ∈ ncL) : va_Nc E name s := hF.2.2.2.1.2.2.2.1.1.2 _ h
theorem g_catch1 (hF : gXK p m c cc nL s args own g A R rm) {x : Nat × Nat × Nat × Nat} {hh : List (Nat × Nat × Nat × Nat)} {E name : String} {ce : Cell} {q : Addr} (htab : c.exceptionTable.toList = tableOf (x :: hh)) (hcov : covers ⟨x.1, x.2.1, x.2.2.1, x.2.2.2⟩ pc = true) (h0 : x.2.2.2 ≠ 0) (hlink : (Cond.classLink own x.2.2.2 name) ∈ lw_all) (hcast : (Cond.castable E name) ∈ lw_tbl) (hcell : H[q]? = some ce) (hv : ce.vm = .none) (hcl : s.vm.findClass E = some ce.cls)
    (kk : W p l e R s m args below meth c H locs cells slots Q (F0 m x.2.2.1 ls [.ref q])) : vx_W p l e R s m args below meth c H locs cells slots Q (F0 m pc ls rest) q :=
  vx_catch hF.1.2.2.2.1 [] ⟨x.1, x.2.1, x.2.2.1, x.2.2.2⟩ (tableOf hh) (by rw [htab]; rfl) (fun z hz => nomatch hz) hcov h0 (hF.1.2.2.2.2 _ hlink) (va_Nw.use rfl (hF.nw hcast rfl)) hcell hv hcl kk
theorem g_catch2 (hF : gXK p m c cc nL s args own g A R rm) {w x : Nat × Nat × Nat × Nat} {hh : List (Nat × Nat × Nat × Nat)} {E name nm0 : String} {ce : Cell} {q : Addr} (htab : c.exceptionTable.toList = tableOf (w :: x :: hh)) (hw0 : w.2.2.2 ≠ 0) (hwl : (Cond.classLink own w.2.2.2 nm0) ∈ lw_all) (hwn : (E, nm0) ∈ ncL) (hcov : covers ⟨x.1, x.2.1, x.2.2.1, x.2.2.2⟩ pc = true) (h0 : x.2.2.2 ≠ 0) (hlink : (Cond.classLink own x.2.2.2 name) ∈ lw_all) (hcast : (Cond.castable E name) ∈ lw_tbl) (hcell : H[q]? = some ce) (hv : ce.vm = .none) (hcl : s.vm.findClass E = some ce.cls)
    (kk : W p l e R s m args below meth c H locs cells slots Q (F0 m x.2.2.1 ls [.ref q])) : vx_W p l e R s m args below meth c H locs cells slots Q (F0 m pc ls rest) q :=
  vx_catch hF.1.2.2.2.1 [⟨w.1, w.2.1, w.2.2.1, w.2.2.2⟩] ⟨x.1, x.2.1, x.2.2.1, x.2.2.2⟩ (tableOf hh) (by rw [htab]; rfl) (fun z hz => by
    have hz := List.mem_singleton.mp hz
    subst hz
    exact Or.inr ⟨hw0, nm0, hF.1.2.2.2.2 _ hwl, g_nc hF hwn⟩) hcov h0 (hF.1.2.2.2.2 _ hlink) (va_Nw.use rfl (hF.nw hcast rfl)) hcell hv hcl kk
end GXH
