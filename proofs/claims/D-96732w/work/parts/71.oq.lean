/-! A call, on an object, of a method that makes objects: with its budget. Own text. -/
set_option maxRecDepth 100000
section OQB
variable {κ : jK} {Γ : jG} {σ : jS} {nL : Nat} {pc : Nat} {L : List (Option Value)} {st : List Value} {cc : ByteArray} {own : String} {ret : Option FieldType} {G : Nat → Nat} {T : XS}
theorem jx_OQB (hκ : jX κ) (C : jC κ Γ cc nL own ret) {y : MethodName} {b2 : ByteArray} {maxL f k m1 index N : Nat} {r2 : Option FieldType} {As : List Value} {t q : Nat} {xo : XO} {vc : vw_C} {α : Type} {F : α → Value} {Q : α → XS → Prop}
    (hM : jM κ y (ws_ y b2 maxL r2) f m1 (64 * m1) (.ref q :: As) (wX κ G T) (fun u w' => ∃ v T', Q v T' ∧ u = some (F v) ∧ w' = wX κ G T')) (hG : GoodIn lw_all (wsV own index y.cls y (ws_ y b2 maxL r2))) (hy : y.cls ≠ "java/lang/invoke/MethodHandle" ∧ y.cls ≠ "java/lang/invoke/VarHandle" ∧ (parseMethodDescriptor y.desc).map (fun d => d.parameters.length) = some N) (hn : As.length = N) (hx : getO T q t = some xo) (ht : t < 30) (hc : jCl[oCi t]? = some vc) (hq : vc.1 = y.cls) (hd : decode cc pc = .ok (.invokevirtual index, 3)) (hfit : jfit σ f m1 (64 * m1) k (64 * k) maxL st) {st0 : List Value} (hst : st0 = As.reverse ++ .ref q :: st)
    (h : ∀ (v : α) (T' : XS), Q v T' → J κ Γ σ nL (wX κ G T') (k + m1) (64 * (k + m1)) (pc + 3) L (F v :: st)) : J κ Γ σ nL (wX κ G T) k (64 * k) pc L st0 :=
  j_callV hκ.1.1 C hM hG hy hn (r := 100 + q) (wX_obt hx ht) (hκ.cl hc) hq hd hfit hst (fun u w' hp => by obtain ⟨v, T', h1, rfl, rfl⟩ := hp; rw [← Nat.mul_add]; exact h v T' h1)
end OQB
