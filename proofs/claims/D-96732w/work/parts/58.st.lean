/-! ROWS: references stored into arrays of an upper class, null stored. Own text. -/
set_option maxRecDepth 100000
section ST
variable {κ : jK} {Γ : jG} {σ : jS} {nL : Nat} {w : jW} {k n : Nat} {pc : Nat} {L : List (Option Value)} {st : List Value} {cc : ByteArray} {own : String} {ret : Option FieldType} {G : Nat → Nat} {T : XS} {a b : Nat}
theorem j_aastO (hκ : jX κ) (C : jC κ Γ cc nL own ret) (r t0 rv : Nat) {E : String} {a : Nat} {cA : ClassId} {N v ci : Nat} {vs : List Value} {vc : vw_C} {f : Nat → Option Nat} {i : Int32} (he : w r = some (a, .inl (cA, N, .inr (.inr (.inr (.inr f)))))) (ht : κ.2.2.2.1[t0]? = some (cA, .object E)) (hv : w rv = some (v, .inr (ci, vs))) (hc : κ.2.2.1[ci]? = some vc) (hca : Cond.castable vc.1 E ∈ lw_tbl) (hin : vp_in i N) (hd : decode cc pc = .ok (.aastore, 1)) (h : J κ Γ σ nL (jset w r (a, .inl (cA, N, .inr (.inr (.inr (.inr (va_up f i.toNatClampNeg (some v)))))))) k n (pc + 1) L st) : J κ Γ σ nL w k n pc L (.ref v :: .int i :: .ref a :: st) := by
  obtain ⟨p, e, s, m, args, below, meth, c, A⟩ := Γ
  obtain ⟨hx, hb, hml, hown, hts, hA, hK, hX, -⟩ := C
  intro H locs ls hP hD hS hl
  have hlt : i.toNatClampNeg < N := Nat.not_le.mp fun q => hin (Or.inr q)
  have h0 : ¬ i < 0 := fun q => hin (Or.inl q)
  obtain ⟨r', hr', cellV, g1, g2, g3, -⟩ := hP rv _ hv
  have hcls := (hK.1 ci vc hc).2
  obtain ⟨kA, comp, k1, k2, k3, -⟩ := (hK.2 t0 _ ht).2
  obtain ⟨kE, hkE, -⟩ := Vm.findClass_spec k3
  obtain ⟨c0, t1, f1, f2, f3⟩ := Cond.castable_spec (va_Nw.use (A := args) rfl ((hκ.2 s hX).1 _ hca rfl))
  cases k3.symm.trans f2
  have hc0 : c0 = κ.2.1.1 ci := Option.some.inj (f1.symm.trans hcls.1)
  subst hc0
  obtain ⟨kC, hkC, -⟩ := hcls.2
  refine W.aast hx hb (hP r _ he) (fun q h => by cases h) (fun h => by cases h) k1 k2 rfl hkE ⟨h0, by show _ < (arrV _ _ _).slots.size; rw [arrV_size]; exact hlt⟩ g1 (fun q h => by rw [g3] at h; cases h) (by rw [g2]; exact hkC) (by rw [g2]; exact f3) rfl rfl hd fun H1 e z oq => ?_
  refine h H1 _ ls (hP.set hD he ?_ oq) (hD.set he) (hS.put z oq (hD.2 r _ he)) hl
  show H1[a]? = some (vp_cell _ _)
  rw [e]
  rw [vp_cell_q, vp_cell_q, arrV_store]
  congr 2
  funext q
  by_cases hq : q = i.toNatClampNeg
  · subst hq
    simp [updV, va_up, va_rf]
  · simp [updV, va_up, hq]
theorem j_aastN0 (C : jC κ Γ cc nL own ret) (r t0 : Nat) {E : String} {a : Nat} {cA : ClassId} {N : Nat} {f : Nat → Option Nat} {i : Int32} (he : w r = some (a, .inl (cA, N, .inr (.inr (.inr (.inr f)))))) (ht : κ.2.2.2.1[t0]? = some (cA, .object E)) (hin : vp_in i N) (hd : decode cc pc = .ok (.aastore, 1)) (h : J κ Γ σ nL (jset w r (a, .inl (cA, N, .inr (.inr (.inr (.inr (va_up f i.toNatClampNeg none))))))) k n (pc + 1) L st) : J κ Γ σ nL w k n pc L (.null :: .int i :: .ref a :: st) := by
  obtain ⟨p, e, s, m, args, below, meth, c, A⟩ := Γ
  obtain ⟨hx, hb, hml, hown, hts, hA, hK, hX, -⟩ := C
  intro H locs ls hP hD hS hl
  refine va_WaastN (C := E) hx hb (hP r _ he) ((hK.2 t0 _ ht).1 N (fun j => va_rf (f j))) (fun h => by cases h) (by show ¬ (i < 0 ∨ (arrV _ _ _).slots.size ≤ _); rw [arrV_size]; exact hin) rfl rfl hd fun H1 e z oq => ?_
  refine h H1 _ ls (hP.set hD he ?_ oq) (hD.set he) (hS.put z oq (hD.2 r _ he)) hl
  show H1[a]? = some (vp_cell _ _)
  rw [e]
  rw [vp_cell_q, vp_cell_q, arrV_store]
  congr 2
  funext q
  by_cases hq : q = i.toNatClampNeg
  · subst hq
    simp [updV, va_up, va_rf]
  · simp [updV, va_up, hq]
theorem jx_aastO (hκ : jX κ) (C : jC κ Γ cc nL own ret) (k : Nat) (hs : xKd k = 5) {E : String} (hty : jTy[xJt k]? = some (.object E)) {i : Int32} {q t : Nat} {x : XO} {vc : vw_C} (hin : vp_in i (xLn k)) (hx : getO T q t = some x) (ht : t < 30) (hc : jCl[oCi t]? = some vc) (hca : Cond.castable vc.1 E ∈ lw_tbl) (hd : decode cc pc = .ok (.aastore, 1)) (h : J κ Γ σ nL (wX κ G (xR T k i.toNatClampNeg (some q))) a b (pc + 1) L st) : J κ Γ σ nL (wX κ G T) a b pc L (.ref q :: .int i :: .ref (G (k + 1)) :: st) := by
  refine j_aastO hκ C (k + 1) (xJt k) (100 + q) (by rw [wX_ar κ G T (by rw [hs]; rfl) (by rw [hs]; rfl), arX5 κ G T hs]) (hκ.ty _ hty) (wX_obt hx ht) (hκ.cl hc) hca hin hd ?_
  rw [wX_sR κ G T hs]
  exact h
theorem jx_aastN (hκ : jX κ) (C : jC κ Γ cc nL own ret) (k : Nat) (hs : xKd k = 5) {E : String} (hty : jTy[xJt k]? = some (.object E)) {i : Int32} (hin : vp_in i (xLn k)) (hd : decode cc pc = .ok (.aastore, 1)) (h : J κ Γ σ nL (wX κ G (xR T k i.toNatClampNeg none)) a b (pc + 1) L st) : J κ Γ σ nL (wX κ G T) a b pc L (.null :: .int i :: .ref (G (k + 1)) :: st) := by
  refine j_aastN0 C (k + 1) (xJt k) (by rw [wX_ar κ G T (by rw [hs]; rfl) (by rw [hs]; rfl), arX5 κ G T hs]) (hκ.ty _ hty) hin hd ?_
  rw [wX_sR κ G T hs]
  exact h
end ST
