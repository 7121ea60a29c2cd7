/-! ROWS of the keys: their fields, super calls of inherited methods, the nest's ran. Own text, printed by kx.py. -/
set_option maxRecDepth 100000
theorem sub_refl0 {vm : Vm} {c : ClassId} (n : Nat) : vm.isSubclassAux (n + 1) c c = true := by simp [Vm.isSubclassAux]
theorem sub_step {vm : Vm} {a b t : ClassId} {k : Class} {n : Nat} (h1 : vm.classes[a]? = some k) (h2 : k.super = some b) (h : vm.isSubclassAux n b t = true) : vm.isSubclassAux (n + 1) a t = true := by
  simp [Vm.isSubclassAux, h1, h2, h]
theorem one_le {a n : Nat} (h : a < n) : ∃ m, n = m + 1 := ⟨n - 1, by omega⟩
theorem two_le {a b n : Nat} (h1 : a < n) (h2 : b < n) (h3 : a ≠ b) : ∃ m, n = m + 2 := ⟨n - 2, by omega⟩
/-- from a class up to the one that has the method -/
def jUp (c o : String) : Prop := Cond.superclass c o ∈ lw_all ∨ ∃ d : String, c ≠ d ∧ Cond.superclass c d ∈ lw_all ∧ Cond.superclass d o ∈ lw_all
theorem jUp.use {args : Array Value} {s : State} (hts : ∀ w ∈ lw_all, w.before args s = true) {c o : String} (h : jUp c o) : ∃ a b : ClassId, s.vm.findClass c = some a ∧ s.vm.findClass o = some b ∧ s.vm.isSubclass a b = true := by
  have fc : ∀ {c o : String}, Cond.superclass c o ∈ lw_all → ∃ a : ClassId, s.vm.findClass c = some a := by
    intro c o hm
    have h1 := hts _ hm
    cases hf : s.vm.findClass c with
    | some a => exact ⟨a, rfl⟩
    | none => exfalso; simp [Cond.before, Cond.holds, Cond.value, hf] at h1
  rcases h with h | ⟨d, hne, h1, h2⟩
  · obtain ⟨a, ha⟩ := fc h
    obtain ⟨b, k, kp, hb, hk, hkp, hs, -⟩ := Cond.superclass_spec ha (hts _ h)
    refine ⟨a, b, ha, hb, ?_⟩
    have hlt : a < s.vm.classes.size := (Array.getElem?_eq_some_iff.mp hk).1
    unfold Vm.isSubclass
    obtain ⟨n, hn⟩ := one_le hlt
    rw [hn]
    exact sub_step hk hs (sub_refl0 n)
  · obtain ⟨a, ha⟩ := fc h1
    obtain ⟨b, k, kp, hb, hk, hkp, hs, -⟩ := Cond.superclass_spec ha (hts _ h1)
    obtain ⟨e, k2, kp2, he, hk2, hkp2, hs2, -⟩ := Cond.superclass_spec hb (hts _ h2)
    refine ⟨a, e, ha, he, ?_⟩
    have hlt : a < s.vm.classes.size := (Array.getElem?_eq_some_iff.mp hk).1
    have hlt2 : b < s.vm.classes.size := (Array.getElem?_eq_some_iff.mp hk2).1
    have hab : a ≠ b := by
      intro hab
      subst hab
      obtain ⟨z1, g1, n1, -⟩ := cc_find ha
      obtain ⟨z2, g2, n2, -⟩ := cc_find hb
      cases g1.symm.trans g2
      exact hne (n1.symm.trans n2)
    unfold Vm.isSubclass
    obtain ⟨n, hn⟩ := two_le hlt hlt2 hab
    rw [hn]
    exact sub_step hk hs (sub_step hk2 hs2 (sub_refl0 n))
/-- what super.m(..) asks where m is inherited -/
def jSU (own : String) (index : Nat) (xc : String) (y : MethodName) (b2 : ByteArray) (maxL : Nat) (r2 : Option FieldType) : Prop := Cond.methodLink own index ⟨xc, y.name, y.desc⟩ ∈ lw_all ∧ Cond.sameMethod xc y.cls y.name y.desc ∈ lw_all ∧ Cond.superclass own xc ∈ lw_all ∧ jUp xc y.cls ∧ Cond.instanceMethod y ∈ lw_all ∧ Cond.initialized y.cls ∈ lw_all ∧ Cond.code y b2 maxL r2 ∈ lw_all ∧ y.name ≠ "<init>"
section SU2
variable {κ : jK} {G : Nat → Nat} {T : XS} {Γ : jG} {σ : jS} {nL : Nat} {a b : Nat} {pc : Nat} {L : List (Option Value)} {st : List Value} {cc : ByteArray} {own : String} {ret : Option FieldType} {w : jW} {k n : Nat}
theorem j_callSU2 (hκ : jX κ) (C : jC κ Γ cc nL own ret) {y : MethodName} {xc : String} {b2 : ByteArray} {maxL f mc ms index N : Nat} {r2 : Option FieldType} {As : List Value} {a ci r : Nat} {fs : List Value} {vc : vw_C} {post : Option Value → jW → Prop}
    (hM : jM κ y (ws_ y b2 maxL r2) f mc ms (.ref a :: As) w post) (hU : jSU own index xc y b2 maxL r2) (hdn : (parseMethodDescriptor y.desc).map (fun d => d.parameters.length) = some N) (hn : As.length = N)
    (he : w r = some (a, .inr (ci, fs))) (hc : κ.2.2.1[ci]? = some vc) (hd : decode cc pc = .ok (.invokespecial index, 3)) (hfit : jfit σ f mc ms k n maxL st) {st0 : List Value} (hst : st0 = As.reverse ++ .ref a :: st)
    (h : ∀ (v : Option Value) (w' : jW), post v w' → J κ Γ σ nL w' (k + mc) (n + ms) (pc + 3) L (v.toList ++ st)) : J κ Γ σ nL w k n pc L st0 := by
  obtain ⟨p, e, s, m, args, below, meth, c, A⟩ := Γ
  intro H locs ls hP hD hS hl
  have hpre := j_pre hκ.1.1 C hP hD hS (.ref a :: As)
  have hrc := j_recv C hP he hc rfl
  obtain ⟨hx, hb, hml, hown, hts, hA, hK, hX, -⟩ := C
  obtain ⟨f1, f2, f3, f4, f5⟩ := hfit
  obtain ⟨u1, u2, u3, u4, u5, u6, u7, u8⟩ := hU
  have hcw : (∀ w ∈ ws_ y b2 maxL r2, ∀ (a' : Array Value) (U : State), s.WarmedH U.vm → w.before a' U = true) := pay_in hts (lw_meth u7)
  have hBk := back_of (len := 3) (sargs := args) (below := below) (p := p) (e := e) (R := jR σ.1 σ.2.1 σ.2.2.1) (bytes := b2) (maxL := maxL) (ret := r2) (hM H.size) hpre.1 rfl rfl f1 (show 8 + (maxL + 11) + 48 * f ≤ 48 * σ.1 by omega) hcw List.mem_cons_self (fun a' U hW => word_at hW (Or.inl (by first | rfl | simp [Cond.onTables, Cond.keeps, Cond.steady])) (hts _ u6))
  refine j_back hA hP hD hS hl (mc := mc) (ms := ms) (a := (Value.ref a :: As).toArray) ?_ h
  obtain ⟨cellB, hcB, hoB, hclB⟩ := hrc
  obtain ⟨hfc, kB, hkB, -⟩ := (hK.1 ci _ hc).2
  have hcc := Option.some.inj (hfc.symm.trans hclB)
  rw [hcc] at hkB
  intro T hT X
  obtain ⟨mk, methM, hnamed, hmethM, hstM, habM⟩ := Cond.instanceMethod_spec (hts _ u5)
  obtain ⟨methM', cM, hmethM', -, -, -, -, -, -, hsigM⟩ := Cond.code_spec hnamed (hts _ u7)
  cases hmethM.symm.trans hmethM'
  obtain ⟨ps, dk, kp, hps, hdk, hkp, hsuper, -, -, hnid⟩ := Cond.superclass_spec hown (hts _ u3)
  obtain ⟨a1, b1, ha1, hb1, hsub⟩ := jUp.use hts u4
  cases ha1.symm.trans hps
  have hpm : b1 = mk.cls := Option.some.inj (hb1.symm.trans (findClass_of_methodNamed hnamed))
  subst hpm
  have hlen : ∀ sig, parseMethodDescriptor y.desc = some sig → As.length = sig.parameters.length := fun sig h9 => by rw [h9] at hdn; exact hn.trans (Option.some.inj hdn).symm
  obtain ⟨vm₁, X₁, hstep₁⟩ := X.invokespecialUp hx hown (x := ⟨xc, y.name, y.desc⟩) (owner := y.cls) (hts _ u1) (hts _ u2) (show s.methodNamed? ⟨y.cls, y.name, y.desc⟩ = some mk from hnamed) hmethM hstM habM u8 hdk hnid hps hsuper hsub (a := a) (cell := cellB) (by rw [hT]; exact hcB)
    (fun z h => by rw [h] at hoB; cases hoB) hkB (g := F0 m pc ls st0) rfl (argsL := As) (rest := st) (hlen _ hsigM) hst (by rw [hb]; exact hd)
  obtain ⟨v, ⟨U', l2, c2, s2⟩, X', hpost, hsteps⟩ := hBk m meth c ⟨T.setVm vm₁, locs, k, n⟩ (F0 m pc ls st) (.invokespecial index) mk (Value.ref a :: As).toArray X₁ rfl (hl.1.trans hml.symm) (by rw [hb]; exact hd) (lv_room f5) (X₁.named hnamed) ⟨f3, f4, hpre.2 (T.setVm vm₁) hT X₁.warmed⟩
  obtain ⟨g', mk', t, L', e1, e2, hq, h1, hL, h2, h3⟩ := hpost
  dsimp only [Pt.U, Pt.locs, Pt.cells, Pt.slots] at X' e1 e2 h1 h2 h3 hsteps
  subst h1; subst h2; subst h3
  exact ⟨v, (T.setVm vm₁).calling g' mk' (Value.ref a :: As).toArray, t, U', L', hT, X', hL, e1, e2, hq, fun target h => hstep₁ _ (by rw [doInvoke_state]; exact hsteps.trans h)⟩
/-- the forms over the component's world -/
theorem jx_SU (hκ : jX κ) (C : jC κ Γ cc nL own ret) {y : MethodName} {b2 : ByteArray} {maxL f mc ms index N : Nat} {r2 : Option FieldType} {As : List Value} {q t : Nat} {xo : XO} {vc : vw_C} {v : Option Value} {T' : XS}
    (hM : jM κ y (ws_ y b2 maxL r2) f mc ms (.ref q :: As) (wX κ G T) (fun u w' => u = v ∧ w' = wX κ G T')) (hG : GoodIn lw_all (va_wsSU own index y (ws_ y b2 maxL r2))) (hdn : y.name ≠ "<init>" ∧ (parseMethodDescriptor y.desc).map (fun d => d.parameters.length) = some N) (hn : As.length = N)
    (hx : getO T q t = some xo) (ht : t < 30) (hc : jCl[oCi t]? = some vc) (hd : decode cc pc = .ok (.invokespecial index, 3)) (hfit : jfit σ f mc ms a b maxL st) {st0 : List Value} (hst : st0 = As.reverse ++ .ref q :: st)
    (h : J κ Γ σ nL (wX κ G T') (a + mc) (b + ms) (pc + 3) L (v.toList ++ st)) : J κ Γ σ nL (wX κ G T) a b pc L st0 :=
  j_callSU hκ C hM hG hdn hn (r := 100 + q) (wX_obt hx ht) (hκ.cl hc) hd hfit hst (fun u w' hp => by obtain ⟨rfl, rfl⟩ := hp; exact h)
theorem jx_SU2 (hκ : jX κ) (C : jC κ Γ cc nL own ret) {y : MethodName} {xc : String} {b2 : ByteArray} {maxL f mc ms index N : Nat} {r2 : Option FieldType} {As : List Value} {q t : Nat} {xo : XO} {vc : vw_C} {v : Option Value} {T' : XS}
    (hM : jM κ y (ws_ y b2 maxL r2) f mc ms (.ref q :: As) (wX κ G T) (fun u w' => u = v ∧ w' = wX κ G T')) (hU : jSU own index xc y b2 maxL r2) (hdn : (parseMethodDescriptor y.desc).map (fun d => d.parameters.length) = some N) (hn : As.length = N)
    (hx : getO T q t = some xo) (ht : t < 30) (hc : jCl[oCi t]? = some vc) (hd : decode cc pc = .ok (.invokespecial index, 3)) (hfit : jfit σ f mc ms a b maxL st) {st0 : List Value} (hst : st0 = As.reverse ++ .ref q :: st)
    (h : J κ Γ σ nL (wX κ G T') (a + mc) (b + ms) (pc + 3) L (v.toList ++ st)) : J κ Γ σ nL (wX κ G T) a b pc L st0 :=
  j_callSU2 hκ C hM hU hdn hn (r := 100 + q) (wX_obt hx ht) (hκ.cl hc) hd hfit hst (fun u w' hp => by obtain ⟨rfl, rfl⟩ := hp; exact h)
theorem jx_ran (hκ : jX κ) (C : jC κ Γ cc nL own ret) {k : Int32} {T' : XS} {index : Nat} {host : String} (h1 : x_ran T k = some T') (hlink : Cond.methodLinkNest own index yX0_ran host ∈ lw_tbl) (hd : decode cc pc = .ok (.invokevirtual index, 3)) (hfit : jfit σ 0 0 0 a b 2 st)
    (h : J κ Γ σ nL (wX κ G T') a b (pc + 3) L st) : J κ Γ σ nL (wX κ G T) a b pc L (.int k :: .ref (G 0) :: st) :=
  j_callVN hκ C (mt_x_ran hκ G h1) q1288 q113 hlink q1287 qs57 ⟨by decide, by decide, by decide +kernel⟩ (N := 1) rfl (As := [.int k]) (r := 0) rfl (ci := ciX0) (vc := (RX0, TX0, 49)) (hκ.cl rfl) rfl hd hfit rfl (fun u w' hp => by obtain ⟨rfl, rfl⟩ := hp; exact h)
end SU2
theorem lw_F9 {own : String} {idx : Nat} {C : String} {x y : MethodName} {b : ByteArray} {L : Nat} {r : Option FieldType} (h1 : Cond.methodLink own idx x ∈ lw_all) (h2 : Cond.selects C x y ∈ lw_all) (h3 : Cond.instanceMethod y ∈ lw_all) (h4 : Cond.initialized y.cls ∈ lw_all) (h5 : Cond.code y b L r ∈ lw_all) : GoodIn lw_all (va_wsF own idx C x y (ws_ y b L r)) := by
  unfold va_wsF
  refine lw_app ?_ (lw_meth h5)
  intro w hw
  simp only [List.mem_cons, List.not_mem_nil, or_false] at hw
  rcases hw with rfl | rfl | rfl | rfl <;> assumption
theorem lw_SU9 {own : String} {idx : Nat} {y : MethodName} {b : ByteArray} {L : Nat} {r : Option FieldType} (h1 : Cond.methodLink own idx y ∈ lw_all) (h2 : Cond.sameMethod y.cls y.cls y.name y.desc ∈ lw_all) (h3 : Cond.superclass own y.cls ∈ lw_all) (h4 : Cond.instanceMethod y ∈ lw_all) (h5 : Cond.initialized y.cls ∈ lw_all) (h6 : Cond.code y b L r ∈ lw_all) : GoodIn lw_all (va_wsSU own idx y (ws_ y b L r)) := by
  unfold va_wsSU
  refine lw_app ?_ (lw_meth h6)
  intro w hw
  simp only [List.mem_cons, List.not_mem_nil, or_false] at hw
  rcases hw with rfl | rfl | rfl | rfl | rfl <;> assumption
theorem jx_F {κ : jK} {G : Nat → Nat} {T : XS} {Γ : jG} {σ : jS} {nL : Nat} {a b : Nat} {pc : Nat} {L : List (Option Value)} {st : List Value} {cc : ByteArray} {own : String} {ret : Option FieldType} (hκ : jX κ) (C : jC κ Γ cc nL own ret) {x y : MethodName} {b2 : ByteArray} {maxL f mc ms index count N : Nat} {r2 : Option FieldType} {Cn : String} {As : List Value} {q t : Nat} {xo : XO} {vc : vw_C} {v : Option Value} {T' : XS}
    (hM : jM κ y (ws_ y b2 maxL r2) f mc ms (.ref q :: As) (wX κ G T) (fun u w' => u = v ∧ w' = wX κ G T')) (hG : GoodIn lw_all (va_wsF own index Cn x y (ws_ y b2 maxL r2))) (hF : (Cn, x, y) ∈ jFwL) (hdn : x.cls ≠ "java/lang/invoke/MethodHandle" ∧ x.cls ≠ "java/lang/invoke/VarHandle" ∧ (parseMethodDescriptor x.desc).map (fun d => d.parameters.length) = some N) (hn : As.length = N)
    (hx : getO T q t = some xo) (ht : t < 30) (hc : jCl[oCi t]? = some vc) (hq : vc.1 = Cn) (hd : decode cc pc = .ok (.invokeinterface index count, 5)) (hfit : jfit σ f mc ms a b maxL st) {st0 : List Value} (hst : st0 = As.reverse ++ .ref q :: st)
    (h : J κ Γ σ nL (wX κ G T') (a + mc) (b + ms) (pc + 5) L (v.toList ++ st)) : J κ Γ σ nL (wX κ G T) a b pc L st0 :=
  j_callF hκ C hM hG hF hdn hn (r := 100 + q) (wX_obt hx ht) (hκ.cl hc) hq hd hfit hst (fun u w' hp => by obtain ⟨rfl, rfl⟩ := hp; exact h)
section KFIELDS
variable {κ : jK} {G : Nat → Nat} {T : XS} {Γ : jG} {σ : jS} {nL : Nat} {a b : Nat} {pc : Nat} {L : List (Option Value)} {st : List Value} {cc : ByteArray} {own : String} {ret : Option FieldType} {q : Nat} {x : XO}
theorem jx_gi15 (hκ : jX κ) (C : jC κ Γ cc nL own ret) (hx : getO T q 15 = some x) (j : Nat) (hj : j < 3) (hk : oK 15 j = 0) {index : Nat} (hlink : Cond.fieldLink own index (TX15 j).1 (TX15 j).2.1 (TX15 j).2.2.1 ∈ lw_all) (hd : decode cc pc = .ok (.getfield index, 3)) (h : J κ Γ σ nL (wX κ G T) a b (pc + 3) L (.int (x.2.1 j) :: st)) : J κ Γ σ nL (wX κ G T) a b pc L (.ref q :: st) :=
  j_get C in_X15 (100 + q) (wX_obt hx (by decide)) (hκ.cl rfl) j hj hlink rfl (fsO_i hx hj hk) hd h
theorem jx_gt15 (hκ : jX κ) (C : jC κ Γ cc nL own ret) (hx : getO T q 15 = some x) (j : Nat) (hj : j < 3) (hk : oK 15 j = 2) {index : Nat} (hlink : Cond.fieldLink own index (TX15 j).1 (TX15 j).2.1 (TX15 j).2.2.1 ∈ lw_all) (hd : decode cc pc = .ok (.getfield index, 3)) (h : J κ Γ σ nL (wX κ G T) a b (pc + 3) L (.ref (G 0) :: st)) : J κ Γ σ nL (wX κ G T) a b pc L (.ref q :: st) :=
  j_get C in_X15 (100 + q) (wX_obt hx (by decide)) (hκ.cl rfl) j hj hlink rfl (fsO_t hx hj hk) hd h
theorem jx_gi16 (hκ : jX κ) (C : jC κ Γ cc nL own ret) (hx : getO T q 16 = some x) (j : Nat) (hj : j < 3) (hk : oK 16 j = 0) {index : Nat} (hlink : Cond.fieldLink own index (TX16 j).1 (TX16 j).2.1 (TX16 j).2.2.1 ∈ lw_all) (hd : decode cc pc = .ok (.getfield index, 3)) (h : J κ Γ σ nL (wX κ G T) a b (pc + 3) L (.int (x.2.1 j) :: st)) : J κ Γ σ nL (wX κ G T) a b pc L (.ref q :: st) :=
  j_get C in_X16 (100 + q) (wX_obt hx (by decide)) (hκ.cl rfl) j hj hlink rfl (fsO_i hx hj hk) hd h
theorem jx_gt16 (hκ : jX κ) (C : jC κ Γ cc nL own ret) (hx : getO T q 16 = some x) (j : Nat) (hj : j < 3) (hk : oK 16 j = 2) {index : Nat} (hlink : Cond.fieldLink own index (TX16 j).1 (TX16 j).2.1 (TX16 j).2.2.1 ∈ lw_all) (hd : decode cc pc = .ok (.getfield index, 3)) (h : J κ Γ σ nL (wX κ G T) a b (pc + 3) L (.ref (G 0) :: st)) : J κ Γ σ nL (wX κ G T) a b pc L (.ref q :: st) :=
  j_get C in_X16 (100 + q) (wX_obt hx (by decide)) (hκ.cl rfl) j hj hlink rfl (fsO_t hx hj hk) hd h
theorem jx_gi17 (hκ : jX κ) (C : jC κ Γ cc nL own ret) (hx : getO T q 17 = some x) (j : Nat) (hj : j < 4) (hk : oK 17 j = 0) {index : Nat} (hlink : Cond.fieldLink own index (TX17 j).1 (TX17 j).2.1 (TX17 j).2.2.1 ∈ lw_all) (hd : decode cc pc = .ok (.getfield index, 3)) (h : J κ Γ σ nL (wX κ G T) a b (pc + 3) L (.int (x.2.1 j) :: st)) : J κ Γ σ nL (wX κ G T) a b pc L (.ref q :: st) :=
  j_get C in_X17 (100 + q) (wX_obt hx (by decide)) (hκ.cl rfl) j hj hlink rfl (fsO_i hx hj hk) hd h
theorem jx_gt17 (hκ : jX κ) (C : jC κ Γ cc nL own ret) (hx : getO T q 17 = some x) (j : Nat) (hj : j < 4) (hk : oK 17 j = 2) {index : Nat} (hlink : Cond.fieldLink own index (TX17 j).1 (TX17 j).2.1 (TX17 j).2.2.1 ∈ lw_all) (hd : decode cc pc = .ok (.getfield index, 3)) (h : J κ Γ σ nL (wX κ G T) a b (pc + 3) L (.ref (G 0) :: st)) : J κ Γ σ nL (wX κ G T) a b pc L (.ref q :: st) :=
  j_get C in_X17 (100 + q) (wX_obt hx (by decide)) (hκ.cl rfl) j hj hlink rfl (fsO_t hx hj hk) hd h
theorem jx_gi18 (hκ : jX κ) (C : jC κ Γ cc nL own ret) (hx : getO T q 18 = some x) (j : Nat) (hj : j < 4) (hk : oK 18 j = 0) {index : Nat} (hlink : Cond.fieldLink own index (TX18 j).1 (TX18 j).2.1 (TX18 j).2.2.1 ∈ lw_all) (hd : decode cc pc = .ok (.getfield index, 3)) (h : J κ Γ σ nL (wX κ G T) a b (pc + 3) L (.int (x.2.1 j) :: st)) : J κ Γ σ nL (wX κ G T) a b pc L (.ref q :: st) :=
  j_get C in_X18 (100 + q) (wX_obt hx (by decide)) (hκ.cl rfl) j hj hlink rfl (fsO_i hx hj hk) hd h
theorem jx_gt18 (hκ : jX κ) (C : jC κ Γ cc nL own ret) (hx : getO T q 18 = some x) (j : Nat) (hj : j < 4) (hk : oK 18 j = 2) {index : Nat} (hlink : Cond.fieldLink own index (TX18 j).1 (TX18 j).2.1 (TX18 j).2.2.1 ∈ lw_all) (hd : decode cc pc = .ok (.getfield index, 3)) (h : J κ Γ σ nL (wX κ G T) a b (pc + 3) L (.ref (G 0) :: st)) : J κ Γ σ nL (wX κ G T) a b pc L (.ref q :: st) :=
  j_get C in_X18 (100 + q) (wX_obt hx (by decide)) (hκ.cl rfl) j hj hlink rfl (fsO_t hx hj hk) hd h
theorem jx_gi19 (hκ : jX κ) (C : jC κ Γ cc nL own ret) (hx : getO T q 19 = some x) (j : Nat) (hj : j < 5) (hk : oK 19 j = 0) {index : Nat} (hlink : Cond.fieldLink own index (TX19 j).1 (TX19 j).2.1 (TX19 j).2.2.1 ∈ lw_all) (hd : decode cc pc = .ok (.getfield index, 3)) (h : J κ Γ σ nL (wX κ G T) a b (pc + 3) L (.int (x.2.1 j) :: st)) : J κ Γ σ nL (wX κ G T) a b pc L (.ref q :: st) :=
  j_get C in_X19 (100 + q) (wX_obt hx (by decide)) (hκ.cl rfl) j hj hlink rfl (fsO_i hx hj hk) hd h
theorem jx_gt19 (hκ : jX κ) (C : jC κ Γ cc nL own ret) (hx : getO T q 19 = some x) (j : Nat) (hj : j < 5) (hk : oK 19 j = 2) {index : Nat} (hlink : Cond.fieldLink own index (TX19 j).1 (TX19 j).2.1 (TX19 j).2.2.1 ∈ lw_all) (hd : decode cc pc = .ok (.getfield index, 3)) (h : J κ Γ σ nL (wX κ G T) a b (pc + 3) L (.ref (G 0) :: st)) : J κ Γ σ nL (wX κ G T) a b pc L (.ref q :: st) :=
  j_get C in_X19 (100 + q) (wX_obt hx (by decide)) (hκ.cl rfl) j hj hlink rfl (fsO_t hx hj hk) hd h
theorem jx_gi20 (hκ : jX κ) (C : jC κ Γ cc nL own ret) (hx : getO T q 20 = some x) (j : Nat) (hj : j < 3) (hk : oK 20 j = 0) {index : Nat} (hlink : Cond.fieldLink own index (TX20 j).1 (TX20 j).2.1 (TX20 j).2.2.1 ∈ lw_all) (hd : decode cc pc = .ok (.getfield index, 3)) (h : J κ Γ σ nL (wX κ G T) a b (pc + 3) L (.int (x.2.1 j) :: st)) : J κ Γ σ nL (wX κ G T) a b pc L (.ref q :: st) :=
  j_get C in_X20 (100 + q) (wX_obt hx (by decide)) (hκ.cl rfl) j hj hlink rfl (fsO_i hx hj hk) hd h
theorem jx_gt20 (hκ : jX κ) (C : jC κ Γ cc nL own ret) (hx : getO T q 20 = some x) (j : Nat) (hj : j < 3) (hk : oK 20 j = 2) {index : Nat} (hlink : Cond.fieldLink own index (TX20 j).1 (TX20 j).2.1 (TX20 j).2.2.1 ∈ lw_all) (hd : decode cc pc = .ok (.getfield index, 3)) (h : J κ Γ σ nL (wX κ G T) a b (pc + 3) L (.ref (G 0) :: st)) : J κ Γ σ nL (wX κ G T) a b pc L (.ref q :: st) :=
  j_get C in_X20 (100 + q) (wX_obt hx (by decide)) (hκ.cl rfl) j hj hlink rfl (fsO_t hx hj hk) hd h
theorem jx_gi21 (hκ : jX κ) (C : jC κ Γ cc nL own ret) (hx : getO T q 21 = some x) (j : Nat) (hj : j < 5) (hk : oK 21 j = 0) {index : Nat} (hlink : Cond.fieldLink own index (TX21 j).1 (TX21 j).2.1 (TX21 j).2.2.1 ∈ lw_all) (hd : decode cc pc = .ok (.getfield index, 3)) (h : J κ Γ σ nL (wX κ G T) a b (pc + 3) L (.int (x.2.1 j) :: st)) : J κ Γ σ nL (wX κ G T) a b pc L (.ref q :: st) :=
  j_get C in_X21 (100 + q) (wX_obt hx (by decide)) (hκ.cl rfl) j hj hlink rfl (fsO_i hx hj hk) hd h
theorem jx_gt21 (hκ : jX κ) (C : jC κ Γ cc nL own ret) (hx : getO T q 21 = some x) (j : Nat) (hj : j < 5) (hk : oK 21 j = 2) {index : Nat} (hlink : Cond.fieldLink own index (TX21 j).1 (TX21 j).2.1 (TX21 j).2.2.1 ∈ lw_all) (hd : decode cc pc = .ok (.getfield index, 3)) (h : J κ Γ σ nL (wX κ G T) a b (pc + 3) L (.ref (G 0) :: st)) : J κ Γ σ nL (wX κ G T) a b pc L (.ref q :: st) :=
  j_get C in_X21 (100 + q) (wX_obt hx (by decide)) (hκ.cl rfl) j hj hlink rfl (fsO_t hx hj hk) hd h
end KFIELDS
