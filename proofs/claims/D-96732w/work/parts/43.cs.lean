/-! CONSTANTS: reads of the const world, a static, a literal. Own text. -/
set_option maxRecDepth 100000
section CS
variable {κ : jK} {Γ : jG} {σ : jS} {nL : Nat} {w : jW} {k n : Nat} {pc : Nat} {L : List (Option Value)} {st : List Value} {cc : ByteArray} {own : String} {ret : Option FieldType}
theorem jcP {p : Program} {e : Env} {s : State} {m : MethodId} {args : Array Value} {below : List Frame} {meth : Method} {c : Code} {A : Nat → Prop} (C : jC κ (p, e, s, m, args, below, meth, c, A) cc nL own ret) {H : Heap} {locs : List Loc} (hS : va_S A s.heap H locs) : jPK κ.2.1 κ.2.2.1 κ.2.2.2.2.1 H := by
  obtain ⟨hx, hb, hml, hown, hts, hA, hK, hX, hc1, hc2, -⟩ := C
  exact hc1.kept fun r q hr => hS.2.1 q.1 (hc1 r q hr).lt (hc2 r q hr)
theorem j_getC (C : jC κ Γ cc nL own ret) {ref C' : String} {T : u_T} {N ci index : Nat} (hin : ∀ w ∈ u_ws C' T N, w ∈ lw_all) (r : Nat) {a : Nat} {fs : List Value} (he : κ.2.2.2.2.1 r = some (a, .inr (ci, fs))) (hc : κ.2.2.1[ci]? = some (C', T, N)) (j : Nat) (hj : j < N) (hlink : Cond.fieldLink own index ref (T j).2.1 (T j).2.2.1 ∈ lw_all) (hrf : (T j).1 = ref) {v : Value} (hv : fs[j]? = some v) (hd : decode cc pc = .ok (.getfield index, 3)) (h : J κ Γ σ nL w k n (pc + 3) L (v :: st)) : J κ Γ σ nL w k n pc L (.ref a :: st) := by
  obtain ⟨p, e, s, m, args, below, meth, c, A⟩ := Γ
  have C0 := C
  obtain ⟨hx, hb, hml, hown, hts, hA, hK, -⟩ := C
  intro H locs ls hP hD hS hl
  obtain ⟨r', cell, h1, q1, q2, q3, q3', q4⟩ := (jcP C0 hS) r _ he
  have hr : r' = (C', T, N) := Option.some.inj (h1.symm.trans hc)
  subst hr
  obtain ⟨hS', hfc, kC, hkC, hkind⟩ := hK.1 ci _ hc
  obtain ⟨cf, kf, fi, f, hi, hsl⟩ := hS' j hj
  refine W.getf hx hb hown (hts _ hlink) (by rw [← hrf]; exact hi) (u_facts hfc hkC (u_lays hts hin hj) hi).1 q1 q3' (v := v) ?_ rfl rfl hd (h H locs ls hP hD hS hl)
  rw [hsl, q4 j hj]
  simp [vp_V, hv]
theorem j_baldC (C : jC κ Γ cc nL own ret) (r : Nat) {a : Nat} {cA : ClassId} {N : Nat} {f : Nat → Int32} {i : Int32} (he : κ.2.2.2.2.1 r = some (a, .inl (cA, N, .inl f))) (ht : ∀ U : State, κ.2.2.2.2.2 U → ArrOfT U cA .byte) (hin : vp_in i N) (hd : decode cc pc = .ok (.baload, 1)) (h : J κ Γ σ nL w k n (pc + 1) L (.int (f i.toNatClampNeg) :: st)) : J κ Γ σ nL w k n pc L (.int i :: .ref a :: st) := by
  obtain ⟨p, e, s, m, args, below, meth, c, A⟩ := Γ
  have C0 := C
  obtain ⟨hx, hb, hml, hown, hts, hA, hK, hX, -⟩ := C
  intro H locs ls hP hD hS hl
  obtain ⟨cell, q1, q2, q3, q4, q5⟩ := (jcP C0 hS) r _ he
  have hlt : i.toNatClampNeg < N := Nat.not_le.mp fun q => hin (Or.inr q)
  exact W.bald (v := .int (f i.toNatClampNeg)) hx hb q1 (ka_arr (ht s hX) q2 q3.2) q3.1 (fun z => hin (z.imp id (fun y => Nat.le_trans q4.1 y))) (by rw [q5 _ hlt]; show (arrV _ _ _).slots[_]? = _; rw [arrV_read _ _ hlt]) rfl rfl hd (h H locs ls hP hD hS hl)
theorem j_alenC (C : jC κ Γ cc nL own ret) (r : Nat) {a : Nat} {cA : ClassId} {x : vp_A} (he : κ.2.2.2.2.1 r = some (a, .inl (cA, x))) {ty : FieldType} (ht : ∀ U : State, κ.2.2.2.2.2 U → ArrOfT U cA ty) {v : Int32} (hv : Int32.ofNat x.1 = v) (hd : decode cc pc = .ok (.arraylength, 1)) (h : J κ Γ σ nL w k n (pc + 1) L (.int v :: st)) : J κ Γ σ nL w k n pc L (.ref a :: st) := by
  obtain ⟨p, e, s, m, args, below, meth, c, A⟩ := Γ
  have C0 := C
  obtain ⟨hx, hb, hml, hown, hts, hA, hK, hX, -⟩ := C
  intro H locs ls hP hD hS hl
  obtain ⟨cell, q1, q2, q3, q4, q5⟩ := (jcP C0 hS) r _ he
  subst hv
  exact W.alen (n := Int32.ofNat x.1) hx hb q1 (ka_arr (ht s hX) q2 q3.2) q4.2 rfl rfl hd (h H locs ls hP hD hS hl)
/-- String.COMPACT_STRINGS -/
theorem j_compact (C : jC κ Γ cc nL own ret) {index : Nat} (hlink : Cond.fieldLink own index "java/lang/String" "COMPACT_STRINGS" "Z" ∈ lw_all) (hd : decode cc pc = .ok (.getstatic index, 3)) (h : J κ Γ σ nL w k n (pc + 3) L (.int 1 :: st)) : J κ Γ σ nL w k n pc L st := by
  obtain ⟨p, e, s, m, args, below, meth, c, A⟩ := Γ
  obtain ⟨hx, hb, hml, hown, hts, hA, hK, hX, hc1, hc2, hZ, -⟩ := C
  intro H locs ls hP hD hS hl
  exact va_gets hx hb hZ.2.2 hS hown (hts _ hlink) (fun x h => h) hd (h H locs ls hP hD hS hl)
/-- a literal -/
theorem j_ldcS (C : jC κ Γ cc nL own ret) {index q : Nat} {tx : String} (hR : ∀ s : State, κ.2.2.2.2.2 s → vk_R own index tx q s) (hd : decode cc pc = .ok (.ldc index, 2)) (h : J κ Γ σ nL w k n (pc + 2) L (.ref q :: st)) : J κ Γ σ nL w k n pc L st := by
  obtain ⟨p, e, s, m, args, below, meth, c, A⟩ := Γ
  obtain ⟨hx, hb, hml, hown, hts, hA, hK, hX, -⟩ := C
  intro H locs ls hP hD hS hl
  exact va_ldcS hx hb hown (hR s hX) hd (h H locs ls hP hD hS hl)
end CS
