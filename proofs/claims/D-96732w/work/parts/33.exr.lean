/-! ROWS OF EXCEPTIONS: what the machine throws in a frame with handlers, caught there. Own text. -/
set_option maxRecDepth 100000
/-! the text of a failed cast -/
theorem cc_mod {vm : Vm} {k : Class} {C : String} (hn : k.name = C) (hl : k.loader = none) (hm : (vm.modules.all fun m => m.loader.isSome || m.name == "java.base" || !(castPackages_1.any fun p => m.packages.contains p)) = true) (hp : packageOf C ∈ castPackages_1) : (vm.home k).toList.length ≤ 38 := by
  have hmo : ∀ m, vm.moduleOf k = some m → m.name = "java.base" := by
    intro m h
    unfold Vm.moduleOf at h
    by_cases hpr : k.ofPrimitives = true
    · rw [if_pos hpr] at h
      have := List.find?_some h
      simpa using this
    · rw [if_neg hpr] at h
      have h1 := List.find?_some h
      have h2 := List.mem_of_find?_eq_some h
      have h3 := List.all_eq_true.mp hm m h2
      simp only [Bool.and_eq_true, beq_iff_eq] at h1
      rw [Bool.or_eq_true, Bool.or_eq_true] at h3
      rcases h3 with (h3 | h3) | h3
      · rw [h1.1, hl] at h3; cases h3
      · simpa using h3
      · rw [Bool.not_eq_true'] at h3
        have h4 : castPackages_1.any (fun p => m.packages.contains p) = true := List.any_eq_true.mpr ⟨packageOf C, hp, by rw [← hn]; exact h1.2⟩
        rw [h4] at h3; cases h3
  unfold Vm.home
  rw [hl]
  rcases hq : vm.moduleOf k with _ | m
  · show ("unnamed module" ++ " of loader " ++ "'bootstrap'").toList.length ≤ 38
    decide
  · have := hmo m hq
    show ("module " ++ m.name ++ " of loader " ++ "'bootstrap'").toList.length ≤ 38
    rw [this]
    decide
theorem cc_find {vm : Vm} {C : String} {c : ClassId} (h : vm.findClass C = some c) : ∃ k : Class, vm.classes[c]? = some k ∧ k.name = C ∧ k.hidden = none ∧ k.loader = none := by
  obtain ⟨hlt, hp, _⟩ := Array.findIdx?_eq_some_iff_getElem.mp h
  refine ⟨vm.classes[c], by simp [hlt], ?_⟩
  simp only [Bool.and_eq_true, beq_iff_eq, Option.isNone_iff_eq_none] at hp
  exact ⟨hp.1.1.1, hp.1.1.2, hp.2⟩
def ccOk (C : String) : Bool := decide (packageOf C ∈ castPackages_1) && decide ((dotted C).toList.length ≤ 24)
theorem cc_text {vm : Vm} {C nm : String} {ks kt : Class} (n1 : ks.name = C) (d1 : ks.hidden = none) (l1 : ks.loader = none) (n2 : kt.name = nm) (d2 : kt.hidden = none) (l2 : kt.loader = none) (hm : (vm.modules.all fun m => m.loader.isSome || m.name == "java.base" || !(castPackages_1.any fun p => m.packages.contains p)) = true) (o1 : ccOk C = true) (o2 : ccOk nm = true) :
    (checkcast.message vm ks kt == notModelled) = false ∧ (stringBytes (stringToUtf16 (checkcast.message vm ks kt))).size ≤ 990 := by
  simp only [ccOk, Bool.and_eq_true, decide_eq_true_eq] at o1 o2
  have s1 : ks.shown = dotted C := by unfold Class.shown; rw [d1, n1]
  have s2 : kt.shown = dotted nm := by unfold Class.shown; rw [d2, n2]
  have h1 := cc_mod n1 l1 hm o1.1
  have h2 := cc_mod n2 l2 hm o2.1
  have e : checkcast.message vm ks kt = toString "class " ++ toString ks.shown ++ toString " cannot be cast to class " ++ toString kt.shown ++ toString " (" ++ toString (vm.homes ks kt) ++ toString ")" := rfl
  have hh : (vm.homes ks kt).toList.length ≤ 140 := by
    unfold Vm.homes
    by_cases hs : vm.sameModule ks kt = true
    · rw [if_pos hs]
      show (toString ks.shown ++ toString " and " ++ toString kt.shown ++ toString " are in " ++ toString (vm.home ks)).toList.length ≤ 140
      rw [s1, s2]
      show (dotted C ++ " and " ++ dotted nm ++ " are in " ++ vm.home ks).toList.length ≤ 140
      simp only [String.toList_append, List.length_append]
      have a1 : (" and " : String).toList.length = 5 := by decide
      have a2 : (" are in " : String).toList.length = 8 := by decide
      omega
    · rw [if_neg hs]
      show (toString ks.shown ++ toString " is in " ++ toString (vm.home ks) ++ toString "; " ++ toString kt.shown ++ toString " is in " ++ toString (vm.home kt)).toList.length ≤ 140
      rw [s1, s2]
      show (dotted C ++ " is in " ++ vm.home ks ++ "; " ++ dotted nm ++ " is in " ++ vm.home kt).toList.length ≤ 140
      simp only [String.toList_append, List.length_append]
      have a1 : (" is in " : String).toList.length = 7 := by decide
      have a2 : ("; " : String).toList.length = 2 := by decide
      omega
  constructor
  · rw [beq_eq_false_iff_ne]
    intro h
    have h3 := congrArg String.toList h
    rw [e] at h3
    have h4 : (toString "class " ++ toString ks.shown ++ toString " cannot be cast to class " ++ toString kt.shown ++ toString " (" ++ toString (vm.homes ks kt) ++ toString ")").toList = 'c' :: ("lass ".toList ++ (toString ks.shown).toList ++ " cannot be cast to class ".toList ++ (toString kt.shown).toList ++ " (".toList ++ (toString (vm.homes ks kt)).toList ++ ")".toList) := by
      simp only [String.toList_append]
      rfl
    rw [h4] at h3
    have h5 : notModelled.toList = '\u0000' :: " a message that is not modelled".toList := by decide
    rw [h5] at h3
    simp at h3
  · have b1 := stringBytes_size_le (stringToUtf16 (checkcast.message vm ks kt))
    have b2 := utf16_size_le (checkcast.message vm ks kt)
    have b3 : (checkcast.message vm ks kt).toList.length ≤ 247 := by
      rw [e, s1, s2]
      show ("class " ++ dotted C ++ " cannot be cast to class " ++ dotted nm ++ " (" ++ vm.homes ks kt ++ ")").toList.length ≤ 247
      simp only [String.toList_append, List.length_append]
      have a1 : ("class " : String).toList.length = 6 := by decide
      have a2 : (" cannot be cast to class " : String).toList.length = 25 := by decide
      have a3 : (" (" : String).toList.length = 2 := by decide
      have a4 : (")" : String).toList.length = 1 := by decide
      omega
    omega
section EXW
variable {p : Program} {l : Launch} {e : Env} {R : Room} {s : State} {m : MethodId} {args : Array Value} {below : List Frame} {meth : Method} {c : Code} {H : Heap} {locs : List Loc} {cells slots : Nat} {Q : State → Prop} {cc : ByteArray} {pc : Nat} {ls : Array Slot} {rest : List Value}
/-- a cast that fails: the machine's note -/
theorem W_castNo (hexec : p.tables.exec = Jvm.exec) (hb : c.code = cc) {own C nm : String} {index a : Nat} {cell : Cell} (hown : s.vm.findClass own = some m.cls) (hlink : (Cond.classLink own index nm).before args s = true) (hcell : H[a]? = some cell) (hobj : cell.vm.isStatics = false) (hC : s.vm.findClass C = some cell.cls) (hn : va_Nc C nm s) (hmod : modulesRight_1 s = true) (o1 : ccOk C = true) (o2 : ccOk nm = true) (hdg : decode cc pc = .ok (.checkcast index, 3))
    (k : ∀ tx : String, (tx == notModelled) = false → (stringBytes (stringToUtf16 tx)).size ≤ 990 → vx_Note p l e R s m args below meth c H locs cells slots Q (F0 m pc ls (.ref a :: rest)) "java/lang/ClassCastException" tx) : W p l e R s m args below meth c H locs cells slots Q (F0 m pc ls (.ref a :: rest)) := by
  intro T hT X
  have hpl : e.platform.magicAccessors = ({} : Platform).magicAccessors := by rw [X.admits.platform]
  obtain ⟨cT, hcT, hcl⟩ := Cond.classLink_spec hown hlink e.platform hpl
  obtain ⟨cC, cT', h1, h2, hasg⟩ := hn
  cases h1.symm.trans hC
  cases h2.symm.trans hcT
  obtain ⟨ks, hks, -, -, -⟩ := cc_find hC
  obtain ⟨dk, _, _, kt, hd, _, _, _, _, hkt, _, hopen⟩ := hcl.here
  have hcl₀ := X.warmed.classLinks hcl
  have hW' : s.WarmedH (T.vm.noted m.cls index (.cls cT)) := X.warmed.noted hd hopen (State.rightAt_cls hcl)
  have X' : Stand p l e R s m args below meth c (T.setVm (T.vm.noted m.cls index (.cls cT))) locs cells slots := X.noted hW'
  obtain ⟨ks', hks', -⟩ := hW'.alike.2.2 _ _ hks
  obtain ⟨kt', hkt', -⟩ := hW'.alike.2.2 _ _ hkt
  have f1 : (T.vm.noted m.cls index (.cls cT)).findClass C = some cell.cls := by rw [hW'.alike.findClass]; exact hC
  have f2 : (T.vm.noted m.cls index (.cls cT)).findClass nm = some cT := by rw [hW'.alike.findClass]; exact hcT
  obtain ⟨k1, g1, n1, d1, l1⟩ := cc_find f1
  cases g1.symm.trans hks'
  obtain ⟨k2, g2, n2, d2, l2⟩ := cc_find f2
  cases g2.symm.trans hkt'
  have hmods : (T.vm.noted m.cls index (.cls cT)).modules = s.vm.modules := by
    have := hW'.alike.1
    rw [this]
  obtain ⟨t1, t2⟩ := cc_text (vm := T.vm.noted m.cls index (.cls cT)) n1 d1 l1 n2 d2 l2 (by rw [hmods]; exact hmod) o1 o2
  obtain ⟨t, st, q⟩ := k _ t1 t2 (T.setVm (T.vm.noted m.cls index (.cls cT))) hT X'
  refine ⟨t, ?_, q⟩
  have hasg' : ¬ (T.vm.noted m.cls index (.cls cT)).assignable cell.cls cT = true := by rw [hW'.alike.assignable, hasg]; decide
  subst hb
  jvm_step X.here [X.here.top, hexec, hdg, checkcast.wp_cold (e := e) (s := T) (f := F0 m pc ls (.ref a :: rest)) X.here.top rfl (resolveClass_links e.toSetting hcl₀) hcl₀.ready,
    checkcast.wp_ready (e := e) (s := T.setVm (T.vm.noted m.cls index (.cls cT))) (f := F0 m pc ls (.ref a :: rest)) X.here.top hcl₀.ready rfl]
  refine ⟨cell, by rw [hT]; exact hcell, VmData.noStatics_of hobj, _, hks', _, hkt', ?_⟩
  rw [if_neg hasg']
  exact st
end EXW
/-! J rows -/
def jtab (Γ : jG) (hh : List (Nat × Nat × Nat × Nat)) : Prop := match Γ with
  | (_, _, _, _, _, _, _, c, _) => c.exceptionTable.toList = tableOf hh
/-- an exception of class E at pc is caught by the table, at tgt -/
def jcat (own : String) (hh : List (Nat × Nat × Nat × Nat)) (pc : Nat) (E : String) (tgt : Nat) : Prop := ∃ (pre : List ExceptionTableEntry) (x : ExceptionTableEntry) (suf : List ExceptionTableEntry) (name : String), tableOf hh = pre ++ x :: suf ∧ (∀ z ∈ pre, covers z pc = false ∨ (z.catchType ≠ 0 ∧ ∃ nm : String, Cond.classLink own z.catchType nm ∈ lw_all ∧ (E, nm) ∈ jNcL)) ∧ covers x pc = true ∧ x.catchType ≠ 0 ∧ Cond.classLink own x.catchType name ∈ lw_all ∧ Cond.castable E name ∈ lw_tbl ∧ x.handlerPc = tgt
def jDecl (x : MethodName) : Prop := Cond.declares x ∈ lw_tbl ∨ (Cond.instanceMethod x ∈ lw_all ∧ ∃ (b : ByteArray) (L : Nat) (r : Option FieldType), Cond.code x b L r ∈ lw_all)
theorem jDecl.use {κ : jK} (hN : jNst κ) {args : Array Value} {s : State} (hts : ∀ w ∈ lw_all, w.before args s = true) (hX : κ.2.2.2.2.2 s) {x : MethodName} (h : jDecl x) : va_Decl s x := by
  rcases h with h | ⟨h1, b, L, r, h2⟩
  · exact va_Decl.abs ((hN s hX).1 _ h rfl)
  · exact va_Decl.of (hts _ h1) (hts _ h2)
def jnMH (y : MethodName) : Prop := y.cls ≠ "java/lang/invoke/MethodHandle" ∧ y.cls ≠ "java/lang/invoke/VarHandle"
section EXJ
variable {κ : jK} {Γ : jG} {σ : jS} {nL : Nat} {w : jW} {k n : Nat} {pc : Nat} {L : List (Option Value)} {st : List Value} {cc : ByteArray} {own : String} {ret : Option FieldType} {hh : List (Nat × Nat × Nat × Nat)}
theorem j_caught {p : Program} {e : Env} {s : State} {m : MethodId} {args : Array Value} {below : List Frame} {meth : Method} {c : Code} {A : Nat → Prop} (hN : jNst κ) (C : jC κ (p, e, s, m, args, below, meth, c, A) cc nL own ret) (ht : jtab (p, e, s, m, args, below, meth, c, A) hh) {E : String} {tgt : Nat} (hc : jcat own hh pc E tgt) {H : Heap} {locs : List Loc} {ls : Array Slot} {rest : List Value} {q : Nat} {ce : Cell} (hP : jP κ.2.1 κ.2.2.1 w H) (hD : jD A w) (hS : va_S A s.heap H locs) (hl : jL ls nL L) (hce : H[q]? = some ce) (hv : ce.vm = .none) (hcl : s.vm.findClass E = some ce.cls)
    (h : J κ (p, e, s, m, args, below, meth, c, A) σ nL w k n tgt L [.ref q]) : vx_W p κ.1 e (jR σ.1 σ.2.1 σ.2.2.1) s m args below meth c H locs k n (MQ below (jQ κ σ.2.2.2 A) args s σ.2.1 σ.2.2.1 A) (F0 m pc ls rest) q := by
  obtain ⟨hx, hb, hml, hown, hts, hA, hK, hX, -⟩ := C
  obtain ⟨pre, x, suf, name, h1, h2, h3, h4, h5, h6, h7⟩ := hc
  have ht' : c.exceptionTable.toList = tableOf hh := ht
  refine vx_catch hown pre x suf (ht'.trans h1) (fun z hz => ?_) h3 h4 (hts _ h5) (va_Nw.use rfl ((hN s hX).1 _ h6 rfl)) hce hv hcl ?_
  · rcases h2 z hz with g | ⟨g1, nm, g2, g3⟩
    · exact Or.inl g
    · exact Or.inr ⟨g1, nm, hts _ g2, (hN s hX).2.2.1 _ g3⟩
  · rw [h7]
    exact h H locs ls hP hD hS hl
/-- an instance method called on null, caught here -/
theorem j_nullX (hκ : jX κ) (C : jC κ Γ cc nL own ret) (ht : jtab Γ hh) {x : MethodName} {index tgt : Nat} {As : List Value} (hlink : Cond.methodLink own index x ∈ lw_all) (hsel : Cond.selects x.cls x x ∈ lw_all ∨ Cond.sameMethod x.cls x.cls x.name x.desc ∈ lw_all) (hdec : jDecl x) (hx : jnMH x) (hlen : (parseMethodDescriptor x.desc).map (fun d => d.parameters.length) = some As.length) (hd : decode cc pc = .ok (.invokevirtual index, 3)) (hcat : jcat own hh pc "java/lang/NullPointerException" tgt) {st0 : List Value} (hst : st0 = As.reverse ++ .null :: st) (hf : 220 ≤ σ.1) (hk : k + 1 ≤ σ.2.1) (hn : n + 8 ≤ σ.2.2.1) (hsum : (st.map fun v => v.category).sum ≤ 8)
    (h : ∀ q : Nat, J κ Γ σ nL w (k + 1) (n + 8) tgt L [.ref q]) : J κ Γ σ nL w k n pc L st0 := by
  obtain ⟨p, e, s, m, args, below, meth, c, A⟩ := Γ
  have C0 := C
  obtain ⟨hx', hb, hml, hown, hts, hA, hK, hX, hc1, hc2, hZ, hlocks, hr⟩ := C
  intro H locs ls hP hD hS hl
  have hnote : vx_NoteN p κ.1 e (jR σ.1 σ.2.1 σ.2.2.1) s m args below meth c H locs k n (MQ below (jQ κ σ.2.2.2 A) args s σ.2.1 σ.2.2.1 A) (F0 m pc ls st) := by
    refine vx_npe hx' hκ.1.1.2 (nb := 8) (A := A) (jhat hκ.2 hts hX jLNPE_pl jLNPE_g) (jhot jLNPE_o) hZ.1 hZ.2.1 hS (hl.1.trans hml.symm) (show 7 < σ.1 by omega) (show _ + 10240 ≤ 48 * σ.1 by omega) hk hn hlocks (fun H1 q9 ce hz hq hS1 hce hv hcl => ?_)
    exact j_caught hκ.2 C0 ht hcat (hP.kept fun r q hr => hq q.1 (hP r q hr).lt) hD hS1 hl hce hv hcl (h q9)
  intro T hT X
  obtain ⟨r0, r, hn0, hrm, hstR, hsigR⟩ := jDecl.use hκ.2 hts hX hdec
  obtain ⟨kP, hkP, hkPi⟩ : ∃ kP : Class, s.vm.classes[r0.cls]? = some kP ∧ kP.isInterface = false := by
    rcases hsel with hsel | hsel
    · obtain ⟨c2, r2, m2, q1, q2, q3, q4, kP, hkP, hkPi⟩ := Cond.selects_spec (hts _ hsel)
      have e1 : m2 = r0 := by
        first | exact Option.some.inj (q3.symm.trans hn0) | exact Option.some.inj (hn0.symm.trans q3)
      rw [← e1]
      exact ⟨kP, hkP, hkPi⟩
    · obtain ⟨cn, ck, r1, hcn, hck, hni, hf1, hn1⟩ := Cond.sameMethod_found (hts _ hsel)
      have e1 : cn = r0.cls := Option.some.inj (hcn.symm.trans (findClass_of_methodNamed hn0))
      rw [← e1]
      exact ⟨ck, hck, hni⟩
  have hl9 : As.length = r.sig.parameters.length := by
    rw [hsigR] at hlen
    exact (Option.some.inj hlen).symm
  obtain ⟨vm', X1, st1⟩ := X.invokevirtualNull hx' hown (hts _ hlink) hn0 hrm hstR hkP hkPi hx (g := F0 m pc ls st0) rfl (argsL := As) (rest := st) hl9 hst (by rw [hb]; exact hd)
  obtain ⟨t, st', q⟩ := hnote (T.setVm vm') hT X1
  exact ⟨t, st1 t st', q⟩
/-- a cast that fails, caught here -/
theorem j_castX (hκ : jX κ) (C : jC κ Γ cc nL own ret) (ht : jtab Γ hh) {C' nm : String} {index tgt a ci r : Nat} {fs : List Value} {vc : vw_C} (hlink : Cond.classLink own index nm ∈ lw_all) (he : w r = some (a, .inr (ci, fs))) (hc : κ.2.2.1[ci]? = some vc) (hcn : vc.1 = C') (hn0 : (C', nm) ∈ jNcL) (o1 : ccOk C' = true) (o2 : ccOk nm = true) (hd : decode cc pc = .ok (.checkcast index, 3)) (hcat : jcat own hh pc "java/lang/ClassCastException" tgt) (hf : 220 ≤ σ.1) (hk : k + 3 ≤ σ.2.1) (hn : n + 1000 ≤ σ.2.2.1) (hsum : (st.map fun v => v.category).sum ≤ 8)
    (h : ∀ q : Nat, J κ Γ σ nL w (k + 3) (n + 1000) tgt L [.ref q]) : J κ Γ σ nL w k n pc L (.ref a :: st) := by
  obtain ⟨p, e, s, m, args, below, meth, c, A⟩ := Γ
  have C0 := C
  obtain ⟨hx', hb, hml, hown, hts, hA, hK, hX, hc1, hc2, hZ, hlocks, hr⟩ := C
  intro H locs ls hP hD hS hl
  obtain ⟨q', h1, cell, g1, g2, g3, -⟩ := hP r _ he
  have e2 : q' = vc := Option.some.inj (h1.symm.trans hc)
  refine W_castNo hx' hb (C := C') hown (hts _ hlink) g1 (by rw [g3]; rfl) (by rw [g2, ← hcn, ← e2]; exact (hK.1 ci q' h1).2.1) ((hκ.2 s hX).2.2.1 _ hn0) (hκ.2 s hX).2.1 o1 o2 hd (fun tx t1 t2 => ?_)
  refine vx_vm hx' hκ.1.1.2 (names := ["java/lang/RuntimeException", "java/lang/Exception"]) (nb := 990) (A := A) (by decide) (by decide) rfl rfl (jhat hκ.2 hts hX jLCCE_pl jLCCE_g) (jhot jLCCE_o) hZ.1 hZ.2.1 hS (hl.1.trans hml.symm) t1 t2 (by decide) (show 6 < σ.1 by omega) (show (List.map (fun v => v.category) (.ref a :: st)).sum + 10240 ≤ 48 * σ.1 from ?_) (by decide) hk hn hlocks (fun H1 q9 ce hz hq hS1 hce hv hcl => ?_)
  · have : (List.map (fun v => v.category) (Value.ref a :: st)).sum = 1 + (st.map fun v => v.category).sum := by simp [Value.category]
    omega
  · exact j_caught hκ.2 C0 ht hcat (hP.kept fun r q hr => hq q.1 (hP r q hr).lt) hD hS1 hl hce hv hcl (h q9)
/-- a cast that holds -/
theorem j_castY (hκ : jX κ) (C : jC κ Γ cc nL own ret) {C' nm : String} {index a ci r : Nat} {fs : List Value} {vc : vw_C} (hlink : Cond.classLink own index nm ∈ lw_all) (he : w r = some (a, .inr (ci, fs))) (hc : κ.2.2.1[ci]? = some vc) (hcn : vc.1 = C') (hcast : Cond.castable C' nm ∈ lw_tbl ∨ C' = nm) (hd : decode cc pc = .ok (.checkcast index, 3))
    (h : J κ Γ σ nL w k n (pc + 3) L (.ref a :: st)) : J κ Γ σ nL w k n pc L (.ref a :: st) := by
  obtain ⟨p, e, s, m, args, below, meth, c, A⟩ := Γ
  obtain ⟨hx', hb, hml, hown, hts, hA, hK, hX, -⟩ := C
  intro H locs ls hP hD hS hl
  obtain ⟨q', h1, cell, g1, g2, g3, -⟩ := hP r _ he
  have e2 : q' = vc := Option.some.inj (h1.symm.trans hc)
  have hcell : ∃ cell : Cell, H[a]? = some cell ∧ cell.vm.isStatics = false ∧ s.vm.findClass C' = some cell.cls := ⟨cell, g1, by rw [g3]; rfl, by rw [g2, ← hcn, ← e2]; exact (hK.1 ci q' h1).2.1⟩
  rcases hcast with hcast | rfl
  · exact va_castY hx' hb hown (hts _ hlink) ((hκ.2 s hX).1 _ hcast rfl) hcell hd (h H locs ls hP hD hS hl)
  · subst hcn
    exact va_castS hx' hb hown (hts _ hlink) (hK.1 ci vc hc).2 hcell hd (h H locs ls hP hD hS hl)
theorem j_castN (C : jC κ Γ cc nL own ret) {index : Nat} (hd : decode cc pc = .ok (.checkcast index, 3)) (h : J κ Γ σ nL w k n (pc + 3) L (.null :: st)) : J κ Γ σ nL w k n pc L (.null :: st) := by
  obtain ⟨p, e, s, m, args, below, meth, c, A⟩ := Γ
  obtain ⟨hx', hb, hml, hown, hts, hA, hK, hX, -⟩ := C
  intro H locs ls hP hD hS hl
  exact lv_castN hx' hb hd (h H locs ls hP hD hS hl)
/-! calls that may throw, caught here -/
def jXC (κ : jK) (w : jW) (E : String) (A : Nat → Prop) : String → State → State → Prop := fun E' st t => E' = E ∧ jP κ.2.1 κ.2.2.1 w t.heap ∧ jD A w ∧ va_F A st t
def jXM (κ : jK) (y : MethodName) (ws : List Cond) (f mc ms : Nat) (av : List Value) (w : jW) (post : Option Value → jW → Prop) (E : String) : Prop :=
  ∀ sz : Nat, vx_Met κ.1 y ws (jR f mc ms) (jPc κ av w sz) (jQ κ post (jA w sz)) (jXC κ w E (jA w sz)) mc ms (jA w sz)
theorem jM.toX {y : MethodName} {ws : List Cond} {f mc ms : Nat} {av : List Value} {post : Option Value → jW → Prop} {E : String} (h : jM κ y ws f mc ms av w post) : jXM κ y ws f mc ms av w post E := fun sz => MetFree.mono (h sz) (fun _ _ h => h) (fun _ _ _ _ _ h => h) (fun _ _ _ _ _ h => Or.inl h)
theorem j_backX {p : Program} {e : Env} {s : State} {m : MethodId} {args : Array Value} {below : List Frame} {meth : Method} {c : Code} {A : Nat → Prop} {H : Heap} {locs : List Loc} {ls : Array Slot} {mc ms : Nat} {st0 : List Value} {a : Array Value} {post : Option Value → jW → Prop} {E : String} {tgt : Nat} (hN : jNst κ) (C : jC κ (p, e, s, m, args, below, meth, c, A) cc nL own ret) (ht : jtab (p, e, s, m, args, below, meth, c, A) hh) (hcat : jcat own hh pc E tgt) (hP : jP κ.2.1 κ.2.2.1 w H) (hD : jD A w) (hS : va_S A s.heap H locs) (hl : jL ls nL L)
    (hr : vx_Run p κ.1 e (jR σ.1 σ.2.1 σ.2.2.1) s m args below meth c H locs k n mc ms (F0 m pc ls st0) st (jQ κ post (jA w H.size) a) (jXC κ w E (jA w H.size)) (jA w H.size))
    (h : ∀ (v : Option Value) (w' : jW), post v w' → J κ (p, e, s, m, args, below, meth, c, A) σ nL w' (k + mc) (n + ms) (pc + 3) L (v.toList ++ st)) (hX : ∀ q : Nat, J κ (p, e, s, m, args, below, meth, c, A) σ nL w (k + mc) (n + ms) tgt L [.ref q]) : W p κ.1 e (jR σ.1 σ.2.1 σ.2.2.1) s m args below meth c H locs k n (MQ below (jQ κ σ.2.2.2 A) args s σ.2.1 σ.2.2.1 A) (F0 m pc ls st0) := by
  have hA : ∀ q, s.heap.size ≤ q → A q := C.2.2.2.2.2.1
  have hf := jA_sub hA hD hS
  intro T hT X
  rcases hr T hT X with ⟨v, st₀, t, T', L', h0, X', hL, e1, e2, ⟨⟨v', w', hv, hp, hP1, hD1⟩, hF⟩, stp⟩ | ⟨q, st₀, t, T', L', E', ce, h0, X', hL, e1, e2, ⟨hE, hP1, hD1, hF⟩, hce, hcv, hcl, stp⟩
  · cases hv
    obtain ⟨-, -, k3⟩ := vx_keep h0 e1 hS (fun q _ h => hf q h) hf hL hF
    obtain ⟨t2, a1, b1⟩ := h v w' hp T'.heap (locs ++ L') ls (by rw [e1]; exact hP1) (hD1.weaken hf) k3 hl T' rfl X'
    exact ⟨t2, stp t2 a1, b1⟩
  · subst hE
    obtain ⟨-, -, k3⟩ := vx_keep h0 e1 hS (fun q _ h => hf q h) hf hL hF
    obtain ⟨t2, a1, b1⟩ := j_caught (H := T'.heap) (locs := locs ++ L') (rest := st) (pc := pc) hN C ht hcat (by rw [e1]; exact hP1) (hD1.weaken hf) k3 hl (by rw [e1]; exact hce) hcv hcl (hX q) T' rfl X'
    exact ⟨t2, stp.trans a1, b1⟩
/-- what a call by a name that another class's code answers asks -/
def jU (own : String) (idx : Nat) (C owner : String) (x y : MethodName) (b2 : ByteArray) (maxL : Nat) (r2 : Option FieldType) : Prop := Cond.methodLink own idx x ∈ lw_all ∧ Cond.sameMethod x.cls owner x.name x.desc ∈ lw_all ∧ Cond.selects C x y ∈ lw_all ∧ Cond.instanceMethod y ∈ lw_all ∧ Cond.initialized y.cls ∈ lw_all ∧ Cond.code y b2 maxL r2 ∈ lw_all ∧ jDecl ⟨owner, x.name, x.desc⟩ ∧ (owner ≠ "java/lang/invoke/MethodHandle" ∧ owner ≠ "java/lang/invoke/VarHandle")
theorem jU.cu (hN : jNst κ) {args : Array Value} {s : State} (hts : ∀ w ∈ lw_all, w.before args s = true) (hX : κ.2.2.2.2.2 s) {idx : Nat} {C owner : String} {x y : MethodName} {b2 : ByteArray} {maxL N : Nat} {r2 : Option FieldType} (h : jU own idx C owner x y b2 maxL r2) (hn : (parseMethodDescriptor x.desc).map (fun d => d.parameters.length) = some N) {R : Room} {f mc ms : Nat} (hf : f + 1 ≤ R.frames) (hlo : 8 + (maxL + 11) + 48 * f ≤ R.locals) : va_CU R s args own C owner idx x y b2 maxL r2 (ws_ y b2 maxL r2) (jR f mc ms) mc ms N := by
  obtain ⟨h1, h2, h3, h4, h5, h6, h7, h8⟩ := h
  refine ⟨⟨rfl, rfl, hf, hlo, pay_in hts (lw_meth h6), List.mem_cons_self⟩, hts _ h6, hts _ h5, h8, fun sig h => ?_, hts _ h1, hts _ h2, jDecl.use hN hts hX h7, hts _ h3, hts _ h4⟩
  rw [h] at hn
  exact (Option.some.inj hn).symm
theorem j_recv {p : Program} {e : Env} {s : State} {m : MethodId} {args : Array Value} {below : List Frame} {meth : Method} {c : Code} {A : Nat → Prop} (C : jC κ (p, e, s, m, args, below, meth, c, A) cc nL own ret) {H : Heap} (hP : jP κ.2.1 κ.2.2.1 w H) {a ci r : Nat} {fs : List Value} {vc : vw_C} (he : w r = some (a, .inr (ci, fs))) (hc : κ.2.2.1[ci]? = some vc) {Cn : String} (hq : vc.1 = Cn) : ∃ cell : Cell, H[a]? = some cell ∧ cell.vm.isStatics = false ∧ s.vm.findClass Cn = some cell.cls := by
  obtain ⟨q', h1, cell, g1, g2, g3, -⟩ := hP r _ he
  have e2 : q' = vc := Option.some.inj (h1.symm.trans hc)
  have hK : va_K κ.2.1 κ.2.2.1 κ.2.2.2.1 s := C.2.2.2.2.2.2.1
  exact ⟨cell, g1, by rw [g3]; rfl, by rw [g2, ← hq, ← e2]; exact (hK.1 ci q' h1).2.1⟩
theorem j_callU (hκ : jX κ) (C : jC κ Γ cc nL own ret) {x y : MethodName} {b2 : ByteArray} {maxL f mc ms index N : Nat} {r2 : Option FieldType} {Cn owner : String} {As : List Value} {a ci r : Nat} {fs : List Value} {vc : vw_C} {post : Option Value → jW → Prop}
    (hM : jM κ y (ws_ y b2 maxL r2) f mc ms (.ref a :: As) w post) (hU : jU own index Cn owner x y b2 maxL r2) (hdn : (parseMethodDescriptor x.desc).map (fun d => d.parameters.length) = some N) (hn : As.length = N)
    (he : w r = some (a, .inr (ci, fs))) (hc : κ.2.2.1[ci]? = some vc) (hq : vc.1 = Cn) (hd : decode cc pc = .ok (.invokevirtual index, 3)) (hfit : jfit σ f mc ms k n maxL st) {st0 : List Value} (hst : st0 = As.reverse ++ .ref a :: st)
    (h : ∀ (v : Option Value) (w' : jW), post v w' → J κ Γ σ nL w' (k + mc) (n + ms) (pc + 3) L (v.toList ++ st)) : J κ Γ σ nL w k n pc L st0 := by
  obtain ⟨p, e, s, m, args, below, meth, c, A⟩ := Γ
  intro H locs ls hP hD hS hl
  have hpre := j_pre hκ.1.1 C hP hD hS (.ref a :: As)
  have C0 := C
  obtain ⟨hx, hb, hml, hown, hts, hA, hK, hX, -⟩ := C
  obtain ⟨f1, f2, f3, f4, f5⟩ := hfit
  exact j_back hA hP hD hS hl (va_runU (As := As) (b := a) (rest := st) ⟨hx, hb, hml, hown, hts⟩ (hM H.size) (hU.cu hκ.2 hts hX hdn f1 (show _ ≤ 48 * σ.1 by omega)) ⟨hpre.1, j_recv C0 hP he hc hq, hpre.2⟩ rfl hn hl.1 hst (lv_room f5) hd ⟨f3, f4⟩) h
theorem j_callUX (hκ : jX κ) (C : jC κ Γ cc nL own ret) (ht : jtab Γ hh) {x y : MethodName} {b2 : ByteArray} {maxL f mc ms index N tgt : Nat} {r2 : Option FieldType} {Cn owner E : String} {As : List Value} {a ci r : Nat} {fs : List Value} {vc : vw_C} {post : Option Value → jW → Prop} (hcat : jcat own hh pc E tgt)
    (hM : jXM κ y (ws_ y b2 maxL r2) f mc ms (.ref a :: As) w post E) (hU : jU own index Cn owner x y b2 maxL r2) (hdn : (parseMethodDescriptor x.desc).map (fun d => d.parameters.length) = some N) (hn : As.length = N)
    (he : w r = some (a, .inr (ci, fs))) (hc : κ.2.2.1[ci]? = some vc) (hq : vc.1 = Cn) (hd : decode cc pc = .ok (.invokevirtual index, 3)) (hfit : jfit σ f mc ms k n maxL st) {st0 : List Value} (hst : st0 = As.reverse ++ .ref a :: st)
    (h : ∀ (v : Option Value) (w' : jW), post v w' → J κ Γ σ nL w' (k + mc) (n + ms) (pc + 3) L (v.toList ++ st)) (hX9 : ∀ q : Nat, J κ Γ σ nL w (k + mc) (n + ms) tgt L [.ref q]) : J κ Γ σ nL w k n pc L st0 := by
  obtain ⟨p, e, s, m, args, below, meth, c, A⟩ := Γ
  intro H locs ls hP hD hS hl
  have hpre := j_pre hκ.1.1 C hP hD hS (.ref a :: As)
  have C0 := C
  obtain ⟨hx, hb, hml, hown, hts, hA, hK, hX, -⟩ := C
  obtain ⟨f1, f2, f3, f4, f5⟩ := hfit
  exact j_backX hκ.2 C0 ht hcat hP hD hS hl (vx_runU (As := As) (b := a) (rest := st) ⟨hx, hb, hml, hown, hts⟩ (hM H.size) (hU.cu hκ.2 hts hX hdn f1 (show _ ≤ 48 * σ.1 by omega)) ⟨hpre.1, j_recv C0 hP he hc hq, hpre.2⟩ rfl hn hl.1 hst (lv_room f5) hd ⟨f3, f4⟩) h hX9
/-- a call of the receiver's class's own method that may throw -/
theorem j_callVX (hκ : jX κ) (C : jC κ Γ cc nL own ret) (ht : jtab Γ hh) {y : MethodName} {b2 : ByteArray} {maxL f mc ms index N tgt : Nat} {r2 : Option FieldType} {E : String} {As : List Value} {a ci r : Nat} {fs : List Value} {vc : vw_C} {post : Option Value → jW → Prop} (hcat : jcat own hh pc E tgt)
    (hM : jXM κ y (ws_ y b2 maxL r2) f mc ms (.ref a :: As) w post E) (hG : GoodIn lw_all (wsV own index y.cls y (ws_ y b2 maxL r2))) (hy : y.cls ≠ "java/lang/invoke/MethodHandle" ∧ y.cls ≠ "java/lang/invoke/VarHandle" ∧ (parseMethodDescriptor y.desc).map (fun d => d.parameters.length) = some N) (hn : As.length = N)
    (he : w r = some (a, .inr (ci, fs))) (hc : κ.2.2.1[ci]? = some vc) (hq : vc.1 = y.cls) (hd : decode cc pc = .ok (.invokevirtual index, 3)) (hfit : jfit σ f mc ms k n maxL st) {st0 : List Value} (hst : st0 = As.reverse ++ .ref a :: st)
    (h : ∀ (v : Option Value) (w' : jW), post v w' → J κ Γ σ nL w' (k + mc) (n + ms) (pc + 3) L (v.toList ++ st)) (hX9 : ∀ q : Nat, J κ Γ σ nL w (k + mc) (n + ms) tgt L [.ref q]) : J κ Γ σ nL w k n pc L st0 := by
  obtain ⟨p, e, s, m, args, below, meth, c, A⟩ := Γ
  intro H locs ls hP hD hS hl
  have hpre := j_pre hκ.1.1 C hP hD hS (.ref a :: As)
  have C0 := C
  obtain ⟨hx, hb, hml, hown, hts, hA, hK, hX, -⟩ := C
  obtain ⟨f1, f2, f3, f4, f5⟩ := hfit
  exact j_backX hκ.2 C0 ht hcat hP hD hS hl (vx_runV (C := y.cls) (As := As) (b := a) (rest := st) ⟨hx, hb, hml, hown, hts⟩ (hM H.size) (cwV N hts hG rfl rfl rfl ⟨rfl, hy⟩ ⟨f1, show _ ≤ 48 * σ.1 by show 8 + (maxL + 11) + 48 * f ≤ _; omega⟩) ⟨hpre.1, j_recv C0 hP he hc hq, hpre.2⟩ rfl hn hl.1 hst (lv_room f5) hd ⟨f3, f4⟩) h hX9
theorem j_callSX (hκ : jX κ) (C : jC κ Γ cc nL own ret) (ht : jtab Γ hh) {y : MethodName} {b2 : ByteArray} {maxL f mc ms index N tgt : Nat} {r2 : Option FieldType} {E : String} {As : List Value} {post : Option Value → jW → Prop} (hcat : jcat own hh pc E tgt)
    (hM : jXM κ y (ws_ y b2 maxL r2) f mc ms As w post E) (hG : GoodIn lw_all (va_wsS own index y (ws_ y b2 maxL r2))) (hy : y.cls ≠ "java/lang/invoke/MethodHandle" ∧ y.cls ≠ "java/lang/invoke/VarHandle" ∧ (parseMethodDescriptor y.desc).map (fun d => d.parameters.length) = some N) (hn : As.length = N)
    (hd : decode cc pc = .ok (.invokestatic index, 3)) (hfit : jfit σ f mc ms k n maxL st) {st0 : List Value} (hst : st0 = As.reverse ++ st)
    (h : ∀ (v : Option Value) (w' : jW), post v w' → J κ Γ σ nL w' (k + mc) (n + ms) (pc + 3) L (v.toList ++ st)) (hX9 : ∀ q : Nat, J κ Γ σ nL w (k + mc) (n + ms) tgt L [.ref q]) : J κ Γ σ nL w k n pc L st0 := by
  obtain ⟨p, e, s, m, args, below, meth, c, A⟩ := Γ
  intro H locs ls hP hD hS hl
  have hpre := j_pre hκ.1.1 C hP hD hS As
  have C0 := C
  obtain ⟨hx, hb, hml, hown, hts, hA, hK, hX, -⟩ := C
  obtain ⟨f1, f2, f3, f4, f5⟩ := hfit
  exact j_backX hκ.2 C0 ht hcat hP hD hS hl (vx_runS (As := As) (rest := st) ⟨hx, hb, hml, hown, hts⟩ (hM H.size) (va_cwS N hts hG rfl rfl rfl hy ⟨f1, show _ ≤ 48 * σ.1 by show 8 + (maxL + 11) + 48 * f ≤ _; omega⟩) hpre rfl hn hl.1 hst (lv_room f5) hd ⟨f3, f4⟩) h hX9
end EXJ
/-- a contract of a method with handlers, out of its walk -/
theorem jM.ofH {κ : jK} {y : MethodName} {cc : ByteArray} {nL f mc ms : Nat} {own : String} {ret : Option FieldType} {hh : List (Nat × Nat × Nat × Nat)} {av : List Value} {w : jW} {post : Option Value → jW → Prop} (hy : plainName y.cls = true) (ho : y.cls = own) (hlen : (lg_sl av).length ≤ nL)
    (body : ∀ Γ : jG, jC κ Γ cc nL own ret → jtab Γ hh → J κ Γ (f, mc, ms, post) nL w 0 0 0 (jent av nL) []) : jM κ y (wsW_ y cc nL ret hh) f mc ms av w post := by
  subst ho
  intro sz
  refine MetFree.of_bodyS (code := cc) (maxLocals := nL) (ret := ret) hy ?_ ?_
  · intro args s m h hn
    obtain ⟨m9, meth, c, hn9, h1, h2, h3, h4, -, h5, h6, -⟩ := Cond.codeWith_spec (atoms_spec (ws := wsW_ y cc nL ret hh) h _ List.mem_cons_self)
    cases hn.symm.trans hn9
    exact ⟨meth, c, h1, h2, h3, h4, h5, h6⟩
  · intro p e s m args below meth c s₁ B hml hv _
    have hh0 : s₁.heap = s.heap := by rw [B.state]; rfl
    obtain ⟨rfl, hsz, hP, hK, hD0, hX, hc1, hc2, hZ⟩ := hv
    have hts0 := atoms_spec (ws := wsW_ y cc nL ret hh) B.pre
    have hts : ∀ w ∈ lw_all, w.before _ s = true := fun w h => hts0 w (List.mem_cons_of_mem _ h)
    have hown : s.vm.findClass y.cls = some m.cls := findClass_of_methodNamed B.named
    have htab : c.exceptionTable.toList = tableOf hh := vx_table (x := y) B (hts0 _ List.mem_cons_self)
    subst hsz
    have hl := lv_entry av (n := nL) hlen
    have K : W p κ.1 e (jR f mc ms) s m av.toArray below meth c s.heap [] 0 0 (MQ below (jQ κ post (jA w s.heap.size)) av.toArray s mc ms (jA w s.heap.size)) (entryFrame m av.toArray nL) := by
      rw [lg_entry_eq]
      generalize (lg_sl av ++ List.replicate (nL - (lg_sl av).length) Slot.unset).toArray = ls at hl ⊢
      have hl' : jL ls nL (jent av nL) := ⟨hl.1, hl.2.1, fun i v h => hl.2.2 (i, v) (by simpa using jent_in av nL 0 i v h)⟩
      refine body (p, e, s, m, av.toArray, below, meth, c, jA w s.heap.size) ⟨B.exec, B.bytes, hml, hown, hts, fun q h => Or.inr h, hK, hX, hc1, ?_, hZ, B.notSynchronized, B.returns⟩ htab s.heap [] ls hP hD0.self va_S.rf hl'
      rintro r q hq (⟨r', e', h⟩ | h)
      · exact hc2 r r' q (q.1, e') hq h rfl
      · exact absurd (hc1 r q hq).lt (by omega)
    obtain ⟨t, a1, o, b1, b2, b3⟩ := K s₁ hh0 (Stand.of_body B)
    exact ⟨t, o, a1, b1, b2, ⟨b3.1, b3.2⟩⟩
