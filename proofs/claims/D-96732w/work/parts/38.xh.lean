/-! ROWS of the component's methods with handlers. Own text. -/
set_option maxRecDepth 100000
def onl {α β : Type} (e : Option α) (A : Option β) (B : α → Option β) : Option β := match e with
  | none => A
  | some a => B a
theorem onl_some {α β : Type} {e : Option α} {A : Option β} {B : α → Option β} {r : β} (h : onl e A B = some r) : (e = none ∧ A = some r) ∨ ∃ a, e = some a ∧ B a = some r := by
  cases e with
  | none => exact Or.inl ⟨rfl, h⟩
  | some a => exact Or.inr ⟨a, rfl, h⟩
def jNos (own : String) (pc : Nat) (E : String) : List (Nat × Nat × Nat × Nat) → Prop
  | [] => True
  | z :: zs => (covers ⟨z.1, z.2.1, z.2.2.1, z.2.2.2⟩ pc = false ∨ (z.2.2.2 ≠ 0 ∧ ∃ nm : String, Cond.classLink own z.2.2.2 nm ∈ lw_all ∧ (E, nm) ∈ jNcL)) ∧ jNos own pc E zs
theorem jNos.all {own : String} {pc : Nat} {E : String} : ∀ (l : List (Nat × Nat × Nat × Nat)), jNos own pc E l → ∀ z ∈ tableOf l, covers z pc = false ∨ (z.catchType ≠ 0 ∧ ∃ nm : String, Cond.classLink own z.catchType nm ∈ lw_all ∧ (E, nm) ∈ jNcL)
  | [], _, z, hz => by cases hz
  | y :: ys, h, z, hz => by
    rcases List.mem_cons.mp hz with rfl | hz
    · exact h.1
    · exact jNos.all ys h.2 z hz
theorem jcat_mk {own : String} {pc : Nat} {E : String} {tgt : Nat} {hh : List (Nat × Nat × Nat × Nat)} (pre : List (Nat × Nat × Nat × Nat)) (x : Nat × Nat × Nat × Nat) (suf : List (Nat × Nat × Nat × Nat)) (name : String) (h1 : hh = pre ++ x :: suf) (h2 : jNos own pc E pre) (h3 : covers ⟨x.1, x.2.1, x.2.2.1, x.2.2.2⟩ pc = true) (h4 : x.2.2.2 ≠ 0) (h5 : Cond.classLink own x.2.2.2 name ∈ lw_all) (h6 : Cond.castable E name ∈ lw_tbl) (h7 : x.2.2.1 = tgt) : jcat own hh pc E tgt := by
  refine ⟨tableOf pre, ⟨x.1, x.2.1, x.2.2.1, x.2.2.2⟩, tableOf suf, name, ?_, jNos.all pre h2, h3, h4, h5, h6, h7⟩
  subst h1
  unfold tableOf
  rw [List.map_append, List.map_cons]
/-- tags whose objects a cast refuses -/
def jBadB (nm : String) (t : Nat) : Bool := decide (t < 30) && (jCl[oCi t]?).isSome && jNcL.contains (jCn t, nm) && ccOk (jCn t) && ccOk nm
theorem jBadB_ok {nm : String} {t : Nat} (h : jBadB nm t = true) : t < 30 ∧ (jCl[oCi t]?).isSome = true ∧ (jCn t, nm) ∈ jNcL ∧ ccOk (jCn t) = true ∧ ccOk nm = true := by
  simp only [jBadB, Bool.and_eq_true, decide_eq_true_eq, List.contains_iff_mem] at h
  exact ⟨h.1.1.1.1, h.1.1.1.2, h.1.1.2, h.1.2, h.2⟩
theorem jbad_Byte : [14, 15, 16, 17, 18, 19, 20, 21, 24, 25, 26, 27].all (jBadB "NineKeysRound$ByteRow") = true := by decide +kernel
theorem jbad_Short : [14, 15, 16, 17, 18, 19, 20, 21, 23, 25, 26, 27].all (jBadB "NineKeysRound$ShortRow") = true := by decide +kernel
theorem jbad_Int : [14, 15, 16, 17, 18, 19, 20, 21, 23, 24, 26, 27].all (jBadB "NineKeysRound$IntRow") = true := by decide +kernel
theorem jbad_Long : [14, 15, 16, 17, 18, 19, 20, 21, 23, 24, 25, 27].all (jBadB "NineKeysRound$LongRow") = true := by decide +kernel
theorem jbad_Boolean : [14, 15, 16, 17, 18, 19, 20, 21, 23, 24, 25, 26].all (jBadB "NineKeysRound$BooleanRow") = true := by decide +kernel
theorem jbad_Row : [14, 15, 16, 17, 18, 19, 20, 21].all (jBadB "NineKeysRound$Row") = true := by decide +kernel
theorem jbad_Key : [23, 24, 25, 26, 27].all (jBadB "NineKeysRound$Key") = true := by decide +kernel
section XH
variable {κ : jK} {G : Nat → Nat} {T : XS} {Γ : jG} {σ : jS} {nL : Nat} {a b : Nat} {pc : Nat} {L : List (Option Value)} {st : List Value} {cc : ByteArray} {own : String} {ret : Option FieldType} {hh : List (Nat × Nat × Nat × Nat)}
theorem jx_castX (hκ : jX κ) (C : jC κ Γ cc nL own ret) (ht : jtab Γ hh) {nm : String} {index tgt q : Nat} {x : XO} {bad : List Nat} (hlink : Cond.classLink own index nm ∈ lw_all) (hx : T.2.2.2 q = some x) (hb : x.1 ∈ bad) (hbad : bad.all (jBadB nm) = true) (hd : decode cc pc = .ok (.checkcast index, 3)) (hcat : jcat own hh pc "java/lang/ClassCastException" tgt) (hf : 220 ≤ σ.1) (hk : a + 3 ≤ σ.2.1) (hn : b + 1000 ≤ σ.2.2.1) (hsum : (st.map fun v => v.category).sum ≤ 8)
    (h : ∀ e : Nat, J κ Γ σ nL (wX κ G T) (a + 3) (b + 1000) tgt L [.ref e]) : J κ Γ σ nL (wX κ G T) a b pc L (.ref q :: st) := by
  obtain ⟨h1, h2, h3, h4, h5⟩ := jBadB_ok (List.all_eq_true.mp hbad _ hb)
  obtain ⟨vc, hvc, hcn⟩ := jCn_some h2
  exact j_castX hκ C ht hlink (r := 100 + q) (wX_obt (getO_eq hx rfl) h1) (hκ.cl hvc) hcn h3 h4 h5 hd hcat hf hk hn hsum h
theorem jx_castY (hκ : jX κ) (C : jC κ Γ cc nL own ret) {C' nm : String} {index q t : Nat} {x : XO} {vc : vw_C} (hlink : Cond.classLink own index nm ∈ lw_all) (hx : getO T q t = some x) (ht : t < 30) (hc : jCl[oCi t]? = some vc) (hcn : vc.1 = C') (hcast : Cond.castable C' nm ∈ lw_tbl ∨ C' = nm) (hd : decode cc pc = .ok (.checkcast index, 3))
    (h : J κ Γ σ nL (wX κ G T) a b (pc + 3) L (.ref q :: st)) : J κ Γ σ nL (wX κ G T) a b pc L (.ref q :: st) :=
  j_castY hκ C hlink (r := 100 + q) (wX_obt hx ht) (hκ.cl hc) hcn hcast hd h
theorem jx_U (hκ : jX κ) (C : jC κ Γ cc nL own ret) {x y : MethodName} {b2 : ByteArray} {maxL f mc ms index N : Nat} {r2 : Option FieldType} {Cn owner : String} {As : List Value} {q t : Nat} {xo : XO} {vc : vw_C} {v : Option Value} {T' : XS}
    (hM : jM κ y (ws_ y b2 maxL r2) f mc ms (.ref q :: As) (wX κ G T) (fun u w' => u = v ∧ w' = wX κ G T')) (hU : jU own index Cn owner x y b2 maxL r2) (hdn : (parseMethodDescriptor x.desc).map (fun d => d.parameters.length) = some N) (hn : As.length = N)
    (hx : getO T q t = some xo) (ht : t < 30) (hc : jCl[oCi t]? = some vc) (hq : vc.1 = Cn) (hd : decode cc pc = .ok (.invokevirtual index, 3)) (hfit : jfit σ f mc ms a b maxL st) {st0 : List Value} (hst : st0 = As.reverse ++ .ref q :: st)
    (h : J κ Γ σ nL (wX κ G T') (a + mc) (b + ms) (pc + 3) L (v.toList ++ st)) : J κ Γ σ nL (wX κ G T) a b pc L st0 :=
  j_callU hκ C hM hU hdn hn (r := 100 + q) (wX_obt hx ht) (hκ.cl hc) hq hd hfit hst (fun u w' hp => by obtain ⟨rfl, rfl⟩ := hp; exact h)
theorem jx_UX (hκ : jX κ) (C : jC κ Γ cc nL own ret) (htb : jtab Γ hh) {x y : MethodName} {b2 : ByteArray} {maxL index N tgt : Nat} {r2 : Option FieldType} {Cn owner E : String} {As : List Value} {q t : Nat} {xo : XO} {vc : vw_C} (hcat : jcat own hh pc E tgt)
    (hM : jXM κ y (ws_ y b2 maxL r2) 220 3 1000 (.ref q :: As) (wX κ G T) (fun _ _ => False) E) (hU : jU own index Cn owner x y b2 maxL r2) (hdn : (parseMethodDescriptor x.desc).map (fun d => d.parameters.length) = some N) (hn : As.length = N)
    (hx : getO T q t = some xo) (ht : t < 30) (hc : jCl[oCi t]? = some vc) (hq : vc.1 = Cn) (hd : decode cc pc = .ok (.invokevirtual index, 3)) (hfit : jfit σ 220 3 1000 a b maxL st) {st0 : List Value} (hst : st0 = As.reverse ++ .ref q :: st)
    (h : ∀ e : Nat, J κ Γ σ nL (wX κ G T) (a + 3) (b + 1000) tgt L [.ref e]) : J κ Γ σ nL (wX κ G T) a b pc L st0 :=
  j_callUX hκ C htb hcat hM hU hdn hn (r := 100 + q) (wX_obt hx ht) (hκ.cl hc) hq hd hfit hst (fun _ _ h => h.elim) h
theorem jx_VX (hκ : jX κ) (C : jC κ Γ cc nL own ret) (htb : jtab Γ hh) {y : MethodName} {b2 : ByteArray} {maxL index N tgt : Nat} {r2 : Option FieldType} {E : String} {As : List Value} {q t : Nat} {xo : XO} {vc : vw_C} (hcat : jcat own hh pc E tgt)
    (hM : jXM κ y (ws_ y b2 maxL r2) 220 3 1000 (.ref q :: As) (wX κ G T) (fun _ _ => False) E) (hG : GoodIn lw_all (wsV own index y.cls y (ws_ y b2 maxL r2))) (hy : y.cls ≠ "java/lang/invoke/MethodHandle" ∧ y.cls ≠ "java/lang/invoke/VarHandle" ∧ (parseMethodDescriptor y.desc).map (fun d => d.parameters.length) = some N) (hn : As.length = N)
    (hx : getO T q t = some xo) (ht : t < 30) (hc : jCl[oCi t]? = some vc) (hq : vc.1 = y.cls) (hd : decode cc pc = .ok (.invokevirtual index, 3)) (hfit : jfit σ 220 3 1000 a b maxL st) {st0 : List Value} (hst : st0 = As.reverse ++ .ref q :: st)
    (h : ∀ e : Nat, J κ Γ σ nL (wX κ G T) (a + 3) (b + 1000) tgt L [.ref e]) : J κ Γ σ nL (wX κ G T) a b pc L st0 :=
  j_callVX hκ C htb hcat hM hG hy hn (r := 100 + q) (wX_obt hx ht) (hκ.cl hc) hq hd hfit hst (fun _ _ h => h.elim) h
end XH
