/-! MORE J ROWS: references that may be null, making objects and arrays, nest mates, super, interfaces. Own text. -/
set_option maxRecDepth 100000
section J3
variable {κ : jK} {Γ : jG} {σ : jS} {nL : Nat} {w : jW} {k n : Nat} {pc : Nat} {L : List (Option Value)} {st : List Value} {cc : ByteArray} {own : String} {ret : Option FieldType}
theorem j_nn {e : Option Nat} {a : Nat} (h : e = some a) (K : J κ Γ σ nL w k n pc L (.ref a :: st)) : J κ Γ σ nL w k n pc L (va_rf e :: st) := by rw [h]; exact K
theorem j_nul {e : Option Nat} (h : e = none) (K : J κ Γ σ nL w k n pc L (.null :: st)) : J κ Γ σ nL w k n pc L (va_rf e :: st) := by rw [h]; exact K
theorem j_aloadE_n (C : jC κ Γ cc nL own ret) {j : Fin 4} {i : Nat} {e : Option Nat} (hd : decode cc pc = .ok (.aload_n j, 1)) (hi : (j : Nat) = i) (hv : L[i]? = some (some (va_rf e))) (h : J κ Γ σ nL w k n (pc + 1) L (va_rf e :: st)) : J κ Γ σ nL w k n pc L st := by
  obtain ⟨p, e', s, m, args, below, meth, c, A⟩ := Γ
  obtain ⟨hx, hb, hml, hown, hts, hA, hK, -⟩ := C
  intro H locs ls hP hD hS hl
  cases e with
  | none => exact lv_aload_nN hx hb hd hi (hl.at hv) (h H locs ls hP hD hS hl)
  | some a => exact lv_aload_n hx hb hd hi (hl.at hv) (h H locs ls hP hD hS hl)
theorem j_aloadE (C : jC κ Γ cc nL own ret) {i : Nat} {e : Option Nat} (hd : decode cc pc = .ok (.aload i, 2)) (hv : L[i]? = some (some (va_rf e))) (h : J κ Γ σ nL w k n (pc + 2) L (va_rf e :: st)) : J κ Γ σ nL w k n pc L st := by
  obtain ⟨p, e', s, m, args, below, meth, c, A⟩ := Γ
  obtain ⟨hx, hb, hml, hown, hts, hA, hK, -⟩ := C
  intro H locs ls hP hD hS hl
  cases e with
  | none => exact lv_aloadN hx hb hd (hl.at hv) (h H locs ls hP hD hS hl)
  | some a => exact lv_aload hx hb hd (hl.at hv) (h H locs ls hP hD hS hl)
theorem j_aload_nN (C : jC κ Γ cc nL own ret) {j : Fin 4} {i : Nat} (hd : decode cc pc = .ok (.aload_n j, 1)) (hi : (j : Nat) = i) (hv : L[i]? = some (some .null)) (h : J κ Γ σ nL w k n (pc + 1) L (.null :: st)) : J κ Γ σ nL w k n pc L st := j_aloadE_n (e := none) C hd hi hv h
theorem j_astoreE_n (C : jC κ Γ cc nL own ret) {j : Fin 4} {i : Nat} {e : Option Nat} (hd : decode cc pc = .ok (.astore_n j, 1)) (hi : (j : Nat) = i) (hn : i < nL) (hok : jok L i = true) (h : J κ Γ σ nL w k n (pc + 1) (L.set i (some (va_rf e))) st) : J κ Γ σ nL w k n pc L (va_rf e :: st) := by
  obtain ⟨p, e', s, m, args, below, meth, c, A⟩ := Γ
  obtain ⟨hx, hb, hml, hown, hts, hA, hK, -⟩ := C
  intro H locs ls hP hD hS hl
  cases e with
  | none => exact lv_astore_nN hx hb hd hi hl.has hn rfl (fun ls' hl' => h H locs ls' hP hD hS (jL.st1 hn hok hl'))
  | some a => exact lv_astore_n hx hb hd hi hl.has hn rfl (fun ls' hl' => h H locs ls' hP hD hS (jL.st1 hn hok hl'))
theorem j_astoreE (C : jC κ Γ cc nL own ret) {i : Nat} {e : Option Nat} (hd : decode cc pc = .ok (.astore i, 2)) (hn : i < nL) (hok : jok L i = true) (h : J κ Γ σ nL w k n (pc + 2) (L.set i (some (va_rf e))) st) : J κ Γ σ nL w k n pc L (va_rf e :: st) := by
  obtain ⟨p, e', s, m, args, below, meth, c, A⟩ := Γ
  obtain ⟨hx, hb, hml, hown, hts, hA, hK, -⟩ := C
  intro H locs ls hP hD hS hl
  cases e with
  | none => exact lv_astoreN hx hb hd hl.has hn rfl (fun ls' hl' => h H locs ls' hP hD hS (jL.st1 hn hok hl'))
  | some a => exact lv_astore hx hb hd hl.has hn rfl (fun ls' hl' => h H locs ls' hP hD hS (jL.st1 hn hok hl'))
theorem j_astore_nN (C : jC κ Γ cc nL own ret) {j : Fin 4} {i : Nat} (hd : decode cc pc = .ok (.astore_n j, 1)) (hi : (j : Nat) = i) (hn : i < nL) (hok : jok L i = true) (h : J κ Γ σ nL w k n (pc + 1) (L.set i (some .null)) st) : J κ Γ σ nL w k n pc L (.null :: st) := j_astoreE_n (e := none) C hd hi hn hok h
theorem j_aret {rt : FieldType} (C : jC κ Γ cc nL own (some rt)) {e : Option Nat} (hrt : (∃ n, rt = .object n) ∨ ∃ t, rt = .array t) (hd : decode cc pc = .ok (.areturn, 1)) (hk : k ≤ σ.2.1) (hn : n ≤ σ.2.2.1) (hp : σ.2.2.2 (some (va_rf e)) w) : J κ Γ σ nL w k n pc L [va_rf e] := by
  obtain ⟨p, e', s, m, args, below, meth, c, A⟩ := Γ
  obtain ⟨hx, hb, hml, hown, hts, hA, hK, -, -, -, -, hlocks, hr⟩ := C
  intro H locs ls hP hD hS hl
  refine W.widen (k := σ.2.1) (n := σ.2.2.1) hk hn ?_
  exact W.aret (v := va_rf e) hx hb hr hrt (by cases e <;> simp [va_rf]) (fun t ht hW => ⟨⟨_, w, rfl, hp, by rw [ht]; exact hP, hD⟩, hS.F ht⟩) hS.2.2 hd
/-- a new object, at an address that no role of the world has -/
theorem j_new (C : jC κ Γ cc nL own ret) {C' : String} {T : u_T} {N ci index : Nat} (hin : ∀ w ∈ u_ws C' T N, w ∈ lw_all) (ty : Nat → FieldType) (hty : ∀ k, k < N → parseFieldDescriptor (T k).2.2.1 = some (ty k)) (hcl : Cond.classLink own index C' ∈ lw_all) (hinst : Cond.instantiable C' N ∈ lw_all) (hini : Cond.initialized C' ∈ lw_all) (hc : κ.2.2.1[ci]? = some (C', T, N)) {fs : List Value} (hfs : ∀ j, j < N → defaultValue (ty j) = vp_V fs j) (hk : k + 1 ≤ σ.2.1) (hn : n + N ≤ σ.2.2.1) (ρ : Nat → Nat) (hd : decode cc pc = .ok (.new index, 3))
    (h : ∀ q : Nat, (∀ (r : Nat) (x : Nat × va_E), w r = some x → x.1 ≠ q) → J κ Γ σ nL (jset w (ρ q) (q, .inr (ci, fs))) (k + 1) (n + N) (pc + 3) L (.ref q :: st)) : J κ Γ σ nL w k n pc L st := by
  obtain ⟨p, e, s, m, args, below, meth, c, A⟩ := Γ
  obtain ⟨hx, hb, hml, hown, hts, hA, hK, -⟩ := C
  intro H locs ls hP hD hS hl
  have hKn := hK.1 ci _ hc
  refine W.newcK hx hb hown (hts _ hcl) (hts _ hinst) (hts _ hini) rfl hd hk hn hKn.2.1 rfl fun H1 kC hkC e1 z1 o1 => ?_
  refine h H.size (fun r x hr he => by have := (hP r x hr).lt; omega) H1 locs ls (hP.push rfl ⟨_, hc, (u_born ty hts hin hKn hkC e1 hty).to hfs⟩ o1) (hD.push hP rfl (hA _ hS.1)) ⟨Nat.le_trans hS.1 (by omega), fun x h1 h2 => (o1 x (Nat.lt_of_lt_of_le h1 hS.1)).trans (hS.2.1 x h1 h2), hS.2.2⟩ hl
/-- a new array of numbers -/
theorem j_newarr (C : jC κ Γ cc nL own ret) {atype : ArrayType} {ty : FieldType} (hty : newarray.typeOf atype = ty) (harr : Cond.arrayClass ty ∈ lw_all) {t0 : Nat} {cA0 : ClassId} (ht : κ.2.2.2.1[t0]? = some (cA0, ty)) (hprim : ∀ C0, ty ≠ .object C0) {i : Int32} {N' : Nat} {a0 : vp_A} (ha : ∀ cA : ClassId, vp_cell cA a0 = arrV cA N' (fun _ => defaultValue ty)) (hi : ¬ i < 0) (hN : i.toNatClampNeg = N') (hbytes : N' * componentBytes ty ≤ 536870912) (hk : k + 1 ≤ σ.2.1) (hn : n + N' ≤ σ.2.2.1) (ρ : Nat → Nat) (hd : decode cc pc = .ok (.newarray atype, 2))
    (h : ∀ q : Nat, (∀ (r : Nat) (x : Nat × va_E), w r = some x → x.1 ≠ q) → J κ Γ σ nL (jset w (ρ q) (q, .inl (cA0, a0))) (k + 1) (n + N') (pc + 2) L (.ref q :: st)) : J κ Γ σ nL w k n pc L (.int i :: st) := by
  obtain ⟨p, e, s, m, args, below, meth, c, A⟩ := Γ
  obtain ⟨hx, hb, hml, hown, hts, hA, hK, -⟩ := C
  subst hty
  intro H locs ls hP hD hS hl
  refine va_newaK hx hb (hts _ harr) rfl hd rfl hi hN hbytes hk hn rfl fun H1 cA e1 z1 o1 hAr hNm => ?_
  have hcA : cA = cA0 := by
    have h2 := (hK.2 t0 _ ht).2
    unfold va_RA at h2
    revert h2
    generalize hg : newarray.typeOf atype = ty at hNm hprim ⊢
    intro h2
    cases ty <;> first | exact absurd rfl (hprim _) | exact Option.some.inj (hNm.symm.trans h2)
  subst hcA
  refine h H.size (fun r x hr he => by have := (hP r x hr).lt; omega) H1 locs ls (hP.push rfl (show H1[H.size]? = some (vp_cell _ _) by rw [ha]; exact e1) o1) (hD.push hP rfl (hA _ hS.1)) ⟨Nat.le_trans hS.1 (by omega), fun x h1 h2 => (o1 x (Nat.lt_of_lt_of_le h1 hS.1)).trans (hS.2.1 x h1 h2), hS.2.2⟩ hl
/-- a new array of references -/
theorem j_newq (C : jC κ Γ cc nL own ret) {E : String} {index : Nat} (hcl : Cond.classLink own index E ∈ lw_all) (hover : ∀ s : State, κ.2.2.2.2.2 s → va_AO E s) {t0 : Nat} {cA0 : ClassId} (ht : κ.2.2.2.1[t0]? = some (cA0, .object E)) {i : Int32} {N' : Nat} (hi : ¬ i < 0) (hN : i.toNatClampNeg = N') (hbytes : N' * 4 ≤ 536870912) (hk : k + 1 ≤ σ.2.1) (hn : n + N' ≤ σ.2.2.1) (ρ : Nat → Nat) (hd : decode cc pc = .ok (.anewarray index, 3))
    (h : ∀ q : Nat, (∀ (r : Nat) (x : Nat × va_E), w r = some x → x.1 ≠ q) → J κ Γ σ nL (jset w (ρ q) (q, .inl (cA0, N', .inr (.inr (.inr (.inr (fun _ => none))))))) (k + 1) (n + N') (pc + 3) L (.ref q :: st)) : J κ Γ σ nL w k n pc L (.int i :: st) := by
  obtain ⟨p, e, s, m, args, below, meth, c, A⟩ := Γ
  obtain ⟨hx, hb, hml, hown, hts, hA, hK, hX, -⟩ := C
  subst hN
  intro H locs ls hP hD hS hl
  refine W.anew hx hb hown (hts _ hcl) (va_AO.use (hover s hX)) rfl hd rfl hi hbytes hk hn fun cA kA comp f1 f2 f3 f4 => ?_
  have hcA : cA = cA0 := by
    obtain ⟨kA', comp', g1, g2, g3, g4⟩ := (hK.2 t0 _ ht).2
    exact Option.some.inj (f1.symm.trans g4)
  subst hcA
  generalize hH1 : H.push ({ cls := cA, slots := Array.replicate i.toNatClampNeg .null, vm := .none } : Cell) = H1
  have z1 : H1.size = H.size + 1 := by rw [← hH1, Array.size_push]
  have e1 : H1[H.size]? = some (arrV cA i.toNatClampNeg (fun _ => .null)) := by rw [← hH1, Array.getElem?_push_size, ← arrV_new]
  have o1 : ∀ q : Nat, q < H.size → H1[q]? = H[q]? := fun q hq => by rw [← hH1, Array.getElem?_push, if_neg (Nat.ne_of_lt hq)]
  refine h H.size (fun r x hr he => by have := (hP r x hr).lt; omega) H1 locs ls (hP.push rfl (show H1[H.size]? = some (vp_cell _ _) by rw [vp_cell_q]; exact e1) o1) (hD.push hP rfl (hA _ hS.1)) ⟨Nat.le_trans hS.1 (by omega), fun x h1 h2 => (o1 x (Nat.lt_of_lt_of_le h1 hS.1)).trans (hS.2.1 x h1 h2), hS.2.2⟩ hl
/-- a final field, in its constructor -/
theorem j_putF (C : jC κ Γ cc nL own ret) (hnm' : jnm Γ "<init>") {ref C' : String} {T : u_T} {N ci index : Nat} (hin : ∀ w ∈ u_ws C' T N, w ∈ lw_all) (ty0 : Nat → FieldType) (hty : ∀ k, k < N → parseFieldDescriptor (T k).2.2.1 = some (ty0 k)) (hnm : ∀ a, a < N → ∀ b, b < N → a ≠ b → (T a).2.1 ≠ (T b).2.1) (r : Nat) {a : Nat} {fs : List Value} (he : w r = some (a, .inr (ci, fs))) (hc : κ.2.2.1[ci]? = some (C', T, N)) (j : Nat) (hj : j < N) (hlink : Cond.fieldLink own index ref (T j).2.1 (T j).2.2.1 ∈ lw_all) (hrf : (T j).1 = ref) (hdecl : (T j).1 = own) (hfin : (T j).2.2.2 = true) {ty : FieldType} {v : Value} (hdd : ty0 j = ty) (hnar : narrow ty v = v) (hfit : fits ty v = true) (hlen : j < fs.length) (hd : decode cc pc = .ok (.putfield index, 3)) (h : J κ Γ σ nL (jset w r (a, .inr (ci, fs.set j v))) k n (pc + 3) L st) : J κ Γ σ nL w k n pc L (v :: .ref a :: st) := by
  obtain ⟨p, e, s, m, args, below, meth, c, A⟩ := Γ
  obtain ⟨hx, hb, hml, hown, hts, hA, hK, -⟩ := C
  intro H locs ls hP hD hS hl
  subst hdd
  have hap := va_apart (own := own) hts hin ty0 hty hnm hK hc
  obtain ⟨r', h1, cell, q1, q2, q3, q4⟩ := hP r _ he
  have hr : r' = (C', T, N) := Option.some.inj (h1.symm.trans hc)
  subst hr
  obtain ⟨hS', hfc, kC, hkC, hkind⟩ := hK.1 ci _ hc
  obtain ⟨cf, kf, fi, f, hi, hsl⟩ := hS' j hj
  have hlay := hts _ (hin _ (u_in_lay hj))
  unfold u_lay at hlay
  rw [if_pos hfin] at hlay
  have hst := (u_facts hfc hkC (u_lays hts hin hj) hi).1
  have hcf : m.cls = cf := by
    obtain ⟨_, _, c', _, _, _, -, -, hf', -, -, -, hown2, -⟩ := Cond.laysFinal_spec hlay
    have e1 : c' = cf := by have := hi.symm.trans hf'; simp at this; exact this.1.symm
    rw [hdecl] at hown2
    rw [← e1]; exact Option.some.inj (hown.symm.trans hown2)
  have h6 := u_fits hfc hkC hkind (Or.inr hlay) hi (hty j hj) hnar hfit
  refine W.putFinK hx hb hown (hts _ hlink) (by rw [← hrf]; exact hi) hst hcf hnm' (by rw [q2]; exact h6) q1 q3 (by rw [hsl]; exact k2_hasslot (q4 j hj)) rfl rfl hd fun H' e1 e2 e3 => ?_
  rw [hsl] at e1 ⊢
  exact h H' _ ls (hP.set hD he ⟨_, hc, t_OB.to (V := updV (vp_V fs) j v) ⟨_, e1, q2, q3, t_set q4 hap hj v⟩ (fun i _ => vp_updV_set hlen v i)⟩ e3) (hD.set he) (hS.put e2 e3 (hD.2 r _ he)) hl
theorem j_objInit (C : jC κ Γ cc nL own ret) {index a : Nat} (hlink : Cond.methodLink own index Lib.objectInit ∈ lw_all) (hinst : Cond.instanceMethod Lib.objectInit ∈ lw_all) (hcode : Cond.code Lib.objectInit ⟨#[0xb1]⟩ 1 none ∈ lw_all) (hd : decode cc pc = .ok (.invokespecial index, 3)) (hf : 1 ≤ σ.1) (hsum : (st.map fun v => v.category).sum ≤ 8) (h : J κ Γ σ nL w k n (pc + 3) L st) : J κ Γ σ nL w k n pc L (.ref a :: st) := by
  obtain ⟨p, e, s, m, args, below, meth, c, A⟩ := Γ
  obtain ⟨hx, hb, hml, hown, hts, hA, hK, -⟩ := C
  intro H locs ls hP hD hS hl
  exact W.objInit hx hb hown (hts _ hlink) (hts _ hinst) (hts _ hcode) rfl (by rw [hml]; exact hl.1) rfl hd hf (show 2 * 0 + _ + 12 ≤ 48 * σ.1 by omega) (h H locs ls hP hD hS hl)
/-! nest mates -/
theorem j_callIN (hκ : jX κ) (C : jC κ Γ cc nL own ret) {y : MethodName} {b2 : ByteArray} {maxL f mc ms index N : Nat} {host : String} {As : List Value} {a : Nat} {post : Option Value → jW → Prop}
    (hM : jM κ y (ws_ y b2 maxL none) f mc ms (.ref a :: As) w post) (hG : Cond.code y b2 maxL none ∈ lw_all) (hini : Cond.initialized y.cls ∈ lw_all) (hlink : Cond.methodLinkNest own index y host ∈ lw_tbl) (hinst : Cond.instanceMethod y ∈ lw_all) (hy1 : y.name = "<init>") (hy : y.cls ≠ "java/lang/invoke/MethodHandle" ∧ y.cls ≠ "java/lang/invoke/VarHandle" ∧ (parseMethodDescriptor y.desc).map (fun d => d.parameters.length) = some N) (hn : As.length = N)
    (hd : decode cc pc = .ok (.invokespecial index, 3)) (hfit : jfit σ f mc ms k n maxL st) {st0 : List Value} (hst : st0 = As.reverse ++ .ref a :: st)
    (h : ∀ (v : Option Value) (w' : jW), post v w' → J κ Γ σ nL w' (k + mc) (n + ms) (pc + 3) L (v.toList ++ st)) : J κ Γ σ nL w k n pc L st0 := by
  obtain ⟨p, e, s, m, args, below, meth, c, A⟩ := Γ
  intro H locs ls hP hD hS hl
  have hpre := j_pre hκ.1.1 C hP hD hS (.ref a :: As)
  obtain ⟨hx, hb, hml, hown, hts, hA, hK, hX, -⟩ := C
  obtain ⟨f1, f2, f3, f4, f5⟩ := hfit
  exact j_back hA hP hD hS hl (va_runIN (As := As) (b := a) (rest := st) ⟨hx, hb, hml, hown, hts⟩ (hM H.size) ⟨va_cnB N hts (lw_meth hG) rfl rfl rfl ((hκ.2 s hX).1 _ hlink rfl) (hts _ hini) hy ⟨f1, show _ ≤ 48 * σ.1 by show 8 + (maxL + 11) + 48 * f ≤ _; omega⟩, hy1, hts _ hinst⟩ hpre rfl hn hl.1 hst (lv_room f5) hd ⟨f3, f4⟩) h
theorem j_callSN (hκ : jX κ) (C : jC κ Γ cc nL own ret) {y : MethodName} {b2 : ByteArray} {maxL f mc ms index N : Nat} {r2 : Option FieldType} {host : String} {As : List Value} {post : Option Value → jW → Prop}
    (hM : jM κ y (ws_ y b2 maxL r2) f mc ms As w post) (hG : Cond.code y b2 maxL r2 ∈ lw_all) (hini : Cond.initialized y.cls ∈ lw_all) (hlink : Cond.methodLinkNest own index y host ∈ lw_tbl) (hstat : Cond.static y ∈ lw_all) (hy : y.cls ≠ "java/lang/invoke/MethodHandle" ∧ y.cls ≠ "java/lang/invoke/VarHandle" ∧ (parseMethodDescriptor y.desc).map (fun d => d.parameters.length) = some N) (hn : As.length = N)
    (hd : decode cc pc = .ok (.invokestatic index, 3)) (hfit : jfit σ f mc ms k n maxL st) {st0 : List Value} (hst : st0 = As.reverse ++ st)
    (h : ∀ (v : Option Value) (w' : jW), post v w' → J κ Γ σ nL w' (k + mc) (n + ms) (pc + 3) L (v.toList ++ st)) : J κ Γ σ nL w k n pc L st0 := by
  obtain ⟨p, e, s, m, args, below, meth, c, A⟩ := Γ
  intro H locs ls hP hD hS hl
  have hpre := j_pre hκ.1.1 C hP hD hS As
  obtain ⟨hx, hb, hml, hown, hts, hA, hK, hX, -⟩ := C
  obtain ⟨f1, f2, f3, f4, f5⟩ := hfit
  exact j_back hA hP hD hS hl (va_runSN (As := As) (rest := st) ⟨hx, hb, hml, hown, hts⟩ (hM H.size) ⟨va_cnB N hts (lw_meth hG) rfl rfl rfl ((hκ.2 s hX).1 _ hlink rfl) (hts _ hini) hy ⟨f1, show _ ≤ 48 * σ.1 by show 8 + (maxL + 11) + 48 * f ≤ _; omega⟩, hts _ hstat, trivial⟩ hpre rfl hn hl.1 hst (lv_room f5) hd ⟨f3, f4⟩) h
theorem j_callVN (hκ : jX κ) (C : jC κ Γ cc nL own ret) {y : MethodName} {b2 : ByteArray} {maxL f mc ms index N : Nat} {r2 : Option FieldType} {host : String} {As : List Value} {a ci r : Nat} {fs : List Value} {vc : vw_C} {post : Option Value → jW → Prop}
    (hM : jM κ y (ws_ y b2 maxL r2) f mc ms (.ref a :: As) w post) (hG : Cond.code y b2 maxL r2 ∈ lw_all) (hini : Cond.initialized y.cls ∈ lw_all) (hlink : Cond.methodLinkNest own index y host ∈ lw_tbl) (hinst : Cond.instanceMethod y ∈ lw_all) (hsel : Cond.selects y.cls y y ∈ lw_all) (hy : y.cls ≠ "java/lang/invoke/MethodHandle" ∧ y.cls ≠ "java/lang/invoke/VarHandle" ∧ (parseMethodDescriptor y.desc).map (fun d => d.parameters.length) = some N) (hn : As.length = N)
    (he : w r = some (a, .inr (ci, fs))) (hc : κ.2.2.1[ci]? = some vc) (hq : vc.1 = y.cls) (hd : decode cc pc = .ok (.invokevirtual index, 3)) (hfit : jfit σ f mc ms k n maxL st) {st0 : List Value} (hst : st0 = As.reverse ++ .ref a :: st)
    (h : ∀ (v : Option Value) (w' : jW), post v w' → J κ Γ σ nL w' (k + mc) (n + ms) (pc + 3) L (v.toList ++ st)) : J κ Γ σ nL w k n pc L st0 := by
  obtain ⟨p, e, s, m, args, below, meth, c, A⟩ := Γ
  intro H locs ls hP hD hS hl
  have hpre := j_pre hκ.1.1 C hP hD hS (.ref a :: As)
  have C0 := C
  obtain ⟨hx, hb, hml, hown, hts, hA, hK, hX, -⟩ := C
  obtain ⟨f1, f2, f3, f4, f5⟩ := hfit
  exact j_back hA hP hD hS hl (va_runVN (C := y.cls) (As := As) (b := a) (rest := st) ⟨hx, hb, hml, hown, hts⟩ (hM H.size) ⟨va_cnB N hts (lw_meth hG) rfl rfl rfl ((hκ.2 s hX).1 _ hlink rfl) (hts _ hini) hy ⟨f1, show _ ≤ 48 * σ.1 by show 8 + (maxL + 11) + 48 * f ≤ _; omega⟩, hts _ hinst, hts _ hsel⟩ ⟨hpre.1, j_recv C0 hP he hc hq, hpre.2⟩ rfl hn hl.1 hst (lv_room f5) hd ⟨f3, f4⟩) h
/-- super.m(..), the superclass's own method -/
theorem j_callSU (hκ : jX κ) (C : jC κ Γ cc nL own ret) {y : MethodName} {b2 : ByteArray} {maxL f mc ms index N : Nat} {r2 : Option FieldType} {As : List Value} {a ci r : Nat} {fs : List Value} {vc : vw_C} {post : Option Value → jW → Prop}
    (hM : jM κ y (ws_ y b2 maxL r2) f mc ms (.ref a :: As) w post) (hG : GoodIn lw_all (va_wsSU own index y (ws_ y b2 maxL r2))) (hdn : y.name ≠ "<init>" ∧ (parseMethodDescriptor y.desc).map (fun d => d.parameters.length) = some N) (hn : As.length = N)
    (he : w r = some (a, .inr (ci, fs))) (hc : κ.2.2.1[ci]? = some vc) (hd : decode cc pc = .ok (.invokespecial index, 3)) (hfit : jfit σ f mc ms k n maxL st) {st0 : List Value} (hst : st0 = As.reverse ++ .ref a :: st)
    (h : ∀ (v : Option Value) (w' : jW), post v w' → J κ Γ σ nL w' (k + mc) (n + ms) (pc + 3) L (v.toList ++ st)) : J κ Γ σ nL w k n pc L st0 := by
  obtain ⟨p, e, s, m, args, below, meth, c, A⟩ := Γ
  intro H locs ls hP hD hS hl
  have hpre := j_pre hκ.1.1 C hP hD hS (.ref a :: As)
  have C0 := C
  obtain ⟨hx, hb, hml, hown, hts, hA, hK, hX, -⟩ := C
  obtain ⟨f1, f2, f3, f4, f5⟩ := hfit
  exact j_back hA hP hD hS hl (va_runSU (As := As) (b := a) (rest := st) (hK.1 ci _ hc).2 ⟨hx, hb, hml, hown, hts⟩ (hM H.size) (va_cwSU N hts hG rfl rfl rfl hdn ⟨f1, show _ ≤ 48 * σ.1 by show 8 + (maxL + 11) + 48 * f ≤ _; omega⟩) ⟨hpre.1, j_recv C0 hP he hc rfl, hpre.2⟩ rfl hn hl.1 hst (lv_room f5) hd ⟨f3, f4⟩) h
/-- behind a call through an interface -/
theorem j_back5 {p : Program} {e : Env} {s : State} {m : MethodId} {args : Array Value} {below : List Frame} {meth : Method} {c : Code} {A : Nat → Prop} {H : Heap} {locs : List Loc} {ls : Array Slot} {mc ms : Nat} {st0 : List Value} {a : Array Value} {post : Option Value → jW → Prop} (hA : ∀ q, s.heap.size ≤ q → A q) (hD : jD A w) (hS : va_S A s.heap H locs) (hl : jL ls nL L)
    (hr : va_Run5 p κ.1 e (jR σ.1 σ.2.1 σ.2.2.1) s m args below meth c H locs k n mc ms (F0 m pc ls st0) st (jQ κ post (jA w H.size) a) (jA w H.size))
    (h : ∀ (v : Option Value) (w' : jW), post v w' → J κ (p, e, s, m, args, below, meth, c, A) σ nL w' (k + mc) (n + ms) (pc + 5) L (v.toList ++ st)) : W p κ.1 e (jR σ.1 σ.2.1 σ.2.2.1) s m args below meth c H locs k n (MQ below (jQ κ σ.2.2.2 A) args s σ.2.1 σ.2.2.1 A) (F0 m pc ls st0) := by
  have hf := jA_sub hA hD hS
  intro T hT X
  obtain ⟨v, st₀, t, T', L', h0, X', hL, e1, e2, ⟨⟨v', w', hv, hp, hP1, hD1⟩, hz, hk⟩, stp⟩ := hr T hT X
  cases hv
  rw [h0] at hz hk
  have hS' : va_S A s.heap T'.heap (locs ++ L') := by
    refine ⟨Nat.le_trans hS.1 (by rw [e1]; exact hz), fun q h1 h2 => ?_, fun q hq => ?_⟩
    · rw [e1, hk q (Nat.lt_of_lt_of_le h1 hS.1) (fun z => h2 (hf q z))]
      exact hS.2.1 q h1 h2
    · rcases List.mem_append.mp hq with h | h
      · exact hS.2.2 q h
      · exact hf _ (hL q h)
  obtain ⟨t2, a1, b1⟩ := h v w' hp T'.heap (locs ++ L') ls (by rw [e1]; exact hP1) (hD1.weaken hf) hS' hl T' rfl X'
  exact ⟨t2, stp t2 a1, b1⟩
theorem j_callF (hκ : jX κ) (C : jC κ Γ cc nL own ret) {x y : MethodName} {b2 : ByteArray} {maxL f mc ms index count N : Nat} {r2 : Option FieldType} {Cn : String} {As : List Value} {a ci r : Nat} {fs : List Value} {vc : vw_C} {post : Option Value → jW → Prop}
    (hM : jM κ y (ws_ y b2 maxL r2) f mc ms (.ref a :: As) w post) (hG : GoodIn lw_all (va_wsF own index Cn x y (ws_ y b2 maxL r2))) (hF : (Cn, x, y) ∈ jFwL) (hdn : x.cls ≠ "java/lang/invoke/MethodHandle" ∧ x.cls ≠ "java/lang/invoke/VarHandle" ∧ (parseMethodDescriptor x.desc).map (fun d => d.parameters.length) = some N) (hn : As.length = N)
    (he : w r = some (a, .inr (ci, fs))) (hc : κ.2.2.1[ci]? = some vc) (hq : vc.1 = Cn) (hd : decode cc pc = .ok (.invokeinterface index count, 5)) (hfit : jfit σ f mc ms k n maxL st) {st0 : List Value} (hst : st0 = As.reverse ++ .ref a :: st)
    (h : ∀ (v : Option Value) (w' : jW), post v w' → J κ Γ σ nL w' (k + mc) (n + ms) (pc + 5) L (v.toList ++ st)) : J κ Γ σ nL w k n pc L st0 := by
  subst hq
  obtain ⟨p, e, s, m, args, below, meth, c, A⟩ := Γ
  intro H locs ls hP hD hS hl
  have hpre := j_pre hκ.1.1 C hP hD hS (.ref a :: As)
  have C0 := C
  obtain ⟨hx, hb, hml, hown, hts, hA, hK, hX, -⟩ := C
  obtain ⟨f1, f2, f3, f4, f5⟩ := hfit
  exact j_back5 hA hD hS hl (va_runF (As := As) (b := a) (rest := st) (hK.1 ci _ hc).2 ⟨hx, hb, hml, hown, hts⟩ (hM H.size) (va_cwF N hts hG rfl rfl rfl ((hκ.2 s hX).2.2.2 _ hF) hdn ⟨f1, show _ ≤ 48 * σ.1 by show 8 + (maxL + 11) + 48 * f ≤ _; omega⟩) ⟨hpre.1, j_recv C0 hP he hc rfl, hpre.2⟩ rfl hn hl.1 hst (lv_room f5) hd ⟨f3, f4⟩) h
end J3
/-- a class of objects by its tag: its name -/
def jCn (t : Nat) : String := ((jCl[oCi t]?).map (fun q => q.1)).getD ""
theorem jCn_some {t : Nat} (h : (jCl[oCi t]?).isSome = true) : ∃ vc : vw_C, jCl[oCi t]? = some vc ∧ vc.1 = jCn t := by
  obtain ⟨vc, hv⟩ := Option.isSome_iff_exists.mp h
  exact ⟨vc, hv, by unfold jCn; rw [hv]; rfl⟩
