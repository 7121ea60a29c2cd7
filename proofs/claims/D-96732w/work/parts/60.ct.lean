/-! CONSTRUCTORS of the small classes: what they write. Own text, printed by ctor.py. -/
set_option maxRecDepth 100000
theorem jset_jset (w : jW) (r : Nat) (x y : Nat × va_E) : jset (jset w r x) r y = jset w r y := by
  funext i
  unfold jset
  by_cases h : i = r
  · rw [if_pos h, if_pos h]
  · rw [if_neg h, if_neg h, if_neg h]
theorem ff_class {s : State} {cls name desc : String} {c i : Nat} {k : Class} {f : Field} (h : s.fieldFound? cls name desc = some (c, k, i, f)) : s.vm.classes[c]? = some k := by
  unfold State.fieldFound? at h
  simp only [Option.bind_eq_bind, Option.bind_eq_some_iff, Option.pure_def, Option.some.injEq, Prod.mk.injEq] at h
  obtain ⟨_, _, _, _, x, _, k1, hk1, f1, _, h1, h2, h3, h4⟩ := h
  rw [← h1, ← h2]
  exact hk1
/-- final fields of two classes of one object, or of two names, have two places -/
theorem key_apart {args : Array Value} {s : State} (hts : ∀ w ∈ lw_all, w.before args s = true) {C o1 n1 d1 o2 n2 d2 : String} (h1 : Cond.laysFinal C o1 n1 d1 ∈ lw_all) (h2 : Cond.laysFinal C o2 n2 d2 ∈ lw_all) {c1 i1 c2 i2 : Nat} {k1 k2 : Class} {f1 f2 : Field} (hf1 : s.fieldFound? o1 n1 d1 = some (c1, k1, i1, f1)) (hf2 : s.fieldFound? o2 n2 d2 = some (c2, k2, i2, f2)) (hne : o1 ≠ o2 ∨ n1 ≠ n2) {t1 t2 : FieldType} (ht1 : parseFieldDescriptor d1 = some t1) (ht2 : parseFieldDescriptor d2 = some t2) : f1.slot ≠ f2.slot := by
  obtain ⟨a1, a2, a3, a4, a5, a6, a7, -, a8, -, -, -, a9, -, a10, a11, a12, a13, -⟩ := Cond.laysFinal_spec (hts _ h1)
  obtain ⟨b1, b2, b3, b4, b5, b6, b7, -, b8, -, -, -, b9, -, b10, b11, b12, b13, -⟩ := Cond.laysFinal_spec (hts _ h2)
  cases a7.symm.trans b7
  have e1 : some (c1, k1, i1, f1) = some (a3, a4, a5, a6) := hf1.symm.trans a8
  have e2 : some (c2, k2, i2, f2) = some (b3, b4, b5, b6) := hf2.symm.trans b8
  simp only [Option.some.injEq, Prod.mk.injEq] at e1 e2
  obtain ⟨rfl, rfl, rfl, rfl⟩ := e1
  obtain ⟨rfl, rfl, rfl, rfl⟩ := e2
  intro hs
  rw [hs] at a11
  cases a11.symm.trans b11
  obtain ⟨z1, g1, m1, -⟩ := cc_find a9
  obtain ⟨z2, g2, m2, -⟩ := cc_find b9
  cases g1.symm.trans (ff_class hf1)
  cases g2.symm.trans (ff_class hf2)
  rcases hne with hne | hne
  · exact hne (m1.symm.trans (a12.symm.trans (b12.trans m2)))
  · exact hne ((State.fieldFound?_type hf1 ht1).1.symm.trans (a13.symm.trans (b13.trans (State.fieldFound?_type hf2 ht2).1)))
theorem j_putF2 {κ : jK} {Γ : jG} {σ : jS} {nL : Nat} {w : jW} {k n : Nat} {pc : Nat} {L : List (Option Value)} {st : List Value} {cc : ByteArray} {own : String} {ret : Option FieldType} (C : jC κ Γ cc nL own ret) (hnm' : jnm Γ "<init>") {ref C' : String} {T : u_T} {N ci index : Nat} (hin : ∀ w ∈ u_ws C' T N, w ∈ lw_all) (ty0 : Nat → FieldType) (hty : ∀ k, k < N → parseFieldDescriptor (T k).2.2.1 = some (ty0 k)) (hnm : ∀ a, a < N → ∀ b, b < N → a ≠ b → (T a).1 ≠ (T b).1 ∨ (T a).2.1 ≠ (T b).2.1) (hfa : ∀ a, a < N → (T a).2.2.2 = true) (r : Nat) {a : Nat} {fs : List Value} (he : w r = some (a, .inr (ci, fs))) (hc : κ.2.2.1[ci]? = some (C', T, N)) (j : Nat) (hj : j < N) (hlink : Cond.fieldLink own index ref (T j).2.1 (T j).2.2.1 ∈ lw_all) (hrf : (T j).1 = ref) (hdecl : (T j).1 = own) {ty : FieldType} {v : Value} (hdd : ty0 j = ty) (hnar : narrow ty v = v) (hfit : fits ty v = true) (hlen : j < fs.length) (hd : decode cc pc = .ok (.putfield index, 3)) (h : J κ Γ σ nL (jset w r (a, .inr (ci, fs.set j v))) k n (pc + 3) L st) : J κ Γ σ nL w k n pc L (v :: .ref a :: st) := by
  obtain ⟨p, e, s, m, args, below, meth, c, A⟩ := Γ
  obtain ⟨hx, hb, hml, hown, hts, hA, hK, -⟩ := C
  intro H locs ls hP hD hS hl
  subst hdd
  have lay : ∀ i, i < N → Cond.laysFinal C' (T i).1 (T i).2.1 (T i).2.2.1 ∈ lw_all := fun i hi => by
    have := hin _ (u_in_lay hi)
    unfold u_lay at this
    rwa [if_pos (hfa i hi)] at this
  have hap : ∀ x y, x < N → y < N → x ≠ y → (κ.2.1.2 ci) x ≠ (κ.2.1.2 ci) y := by
    intro x y hx hy hne
    obtain ⟨hS9, -⟩ := hK.1 ci _ hc
    obtain ⟨_, _, _, fa, hia, ea⟩ := hS9 x hx
    obtain ⟨_, _, _, fb, hib, eb⟩ := hS9 y hy
    rw [← ea, ← eb]
    exact key_apart hts (lay x hx) (lay y hy) hia hib (hnm x hx y hy hne) (hty x hx) (hty y hy)
  obtain ⟨r', h1, cell, q1, q2, q3, q4⟩ := hP r _ he
  have hr : r' = (C', T, N) := Option.some.inj (h1.symm.trans hc)
  subst hr
  obtain ⟨hS', hfc, kC, hkC, hkind⟩ := hK.1 ci _ hc
  obtain ⟨cf, kf, fi, f, hi, hsl⟩ := hS' j hj
  have hlay := hts _ (lay j hj)
  have hst := (u_facts hfc hkC (u_lays hts hin hj) hi).1
  have hcf : m.cls = cf := by
    obtain ⟨_, _, c', _, _, _, -, -, hf', -, -, -, hown2, -⟩ := Cond.laysFinal_spec hlay
    have e1 : c' = cf := by have := hi.symm.trans hf'; simp at this; exact this.1.symm
    rw [hdecl] at hown2
    rw [← e1]; exact Option.some.inj (hown.symm.trans hown2)
  have h6 := u_fits hfc hkC hkind (Or.inr hlay) hi (hty j hj) hnar hfit
  refine W.putFinK hx hb hown (hts _ hlink) (by rw [← hrf]; exact hi) hst hcf hnm' (by rw [q2]; exact h6) q1 q3 (by rw [hsl]; exact k2_hasslot (q4 j hj)) rfl rfl hd fun H' e1 e2 e3 => ?_
  rw [hsl] at e1 ⊢
  exact h H' _ ls (hP.set hD he ⟨_, hc, t_OB.to (V := updV (vp_V fs) j v) ⟨_, e1, q2, q3, t_set q4 hap hj v⟩ (fun i _ => vp_updV_set hlen v i)⟩ e3) (hD.set he) (hS.put e2 e3 (hD.2 r _ he)) hl
theorem jset_at (w : jW) (r : Nat) (x : Nat × va_E) : jset w r x r = some x := by unfold jset; rw [if_pos rfl]
theorem mt_i3_3 {κ : jK} (hκ : jX κ) (w : jW) (r q : Nat) (p1 : Int32) (p2 : Int32) (v0 v1 v2 v3 v4 : Value) : jM κ yX3_init (ws_ yX3_init cX3_init 3 none) 1 0 0 [.ref q, .int p1, .int p2] (jset w r (q, .inr (oCi 3, [v0, v1, v2, v3, v4]))) (fun u w' => u = none ∧ w' = jset w r (q, .inr (oCi 3, [.int p1, .int p2, .int 1, .int 60, v4]))) := by
  refine jM.of (by decide) rfl (Nat.le_of_ble_eq_true rfl) fun Γ C hnm => ?_
  show J κ Γ (1, 0, 0, (fun u w' => u = none ∧ w' = jset w r (q, .inr (oCi 3, [.int p1, .int p2, .int 1, .int 60, v4])))) 3 (jset w r (q, .inr (oCi 3, [v0, v1, v2, v3, v4]))) 0 0 0 [some (.ref q), some (.int p1), some (.int p2)] []
  refine j_aload_n C dX3_init_0 rfl rfl ?_
  refine j_objInit C q356 q163 q164 dX3_init_1 (Nat.le_of_ble_eq_true rfl) (by decide) ?_
  refine j_aload_n C dX3_init_4 rfl rfl ?_
  refine j_iconst C (v := 1) dX3_init_5 rfl ?_
  refine j_put C in_X3 tyX3 tyX3_ok nmX3 r (jset_at _ _ _) (hκ.cl rfl) 2 (by decide) q361 rfl rfl (v := .int 1) rfl rfl rfl (by simp) dX3_init_6 ?_
  refine j_world (jset_jset w r _ _) ?_
  show J κ Γ _ _ (jset w r (q, .inr (oCi 3, [v0, v1, .int 1, v3, v4]))) _ _ _ _ _
  refine j_aload_n C dX3_init_9 rfl rfl ?_
  refine j_bipush C (v := 60) dX3_init_10 rfl ?_
  refine j_put C in_X3 tyX3 tyX3_ok nmX3 r (jset_at _ _ _) (hκ.cl rfl) 3 (by decide) q363 rfl rfl (v := .int 60) rfl rfl rfl (by simp) dX3_init_12 ?_
  refine j_world (jset_jset w r _ _) ?_
  show J κ Γ _ _ (jset w r (q, .inr (oCi 3, [v0, v1, .int 1, .int 60, v4]))) _ _ _ _ _
  refine j_aload_n C dX3_init_15 rfl rfl ?_
  refine j_iload_n C dX3_init_16 rfl rfl ?_
  refine j_put C in_X3 tyX3 tyX3_ok nmX3 r (jset_at _ _ _) (hκ.cl rfl) 0 (by decide) q357 rfl rfl (v := .int p1) rfl rfl rfl (by simp) dX3_init_17 ?_
  refine j_world (jset_jset w r _ _) ?_
  show J κ Γ _ _ (jset w r (q, .inr (oCi 3, [.int p1, v1, .int 1, .int 60, v4]))) _ _ _ _ _
  refine j_aload_n C dX3_init_20 rfl rfl ?_
  refine j_iload_n C dX3_init_21 rfl rfl ?_
  refine j_put C in_X3 tyX3 tyX3_ok nmX3 r (jset_at _ _ _) (hκ.cl rfl) 1 (by decide) q359 rfl rfl (v := .int p2) rfl rfl rfl (by simp) dX3_init_22 ?_
  refine j_world (jset_jset w r _ _) ?_
  show J κ Γ _ _ (jset w r (q, .inr (oCi 3, [.int p1, .int p2, .int 1, .int 60, v4]))) _ _ _ _ _
  exact j_vret C dX3_init_25 (Nat.zero_le _) (Nat.zero_le _) ⟨rfl, rfl⟩
theorem mt_i4_4 {κ : jK} (hκ : jX κ) (w : jW) (r q : Nat) (p1 : Int32) (p2 : Int32) (p3 : Int32) (p4 : Int32) (v0 v1 v2 v3 : Value) : jM κ yX4_init (ws_ yX4_init cX4_init 5 none) 1 0 0 [.ref q, .int p1, .int p2, .int p3, .int p4] (jset w r (q, .inr (oCi 4, [v0, v1, v2, v3]))) (fun u w' => u = none ∧ w' = jset w r (q, .inr (oCi 4, [.int p1, .int p2, .int p3, .int p4]))) := by
  refine jM.of (by decide) rfl (Nat.le_of_ble_eq_true rfl) fun Γ C hnm => ?_
  show J κ Γ (1, 0, 0, (fun u w' => u = none ∧ w' = jset w r (q, .inr (oCi 4, [.int p1, .int p2, .int p3, .int p4])))) 5 (jset w r (q, .inr (oCi 4, [v0, v1, v2, v3]))) 0 0 0 [some (.ref q), some (.int p1), some (.int p2), some (.int p3), some (.int p4)] []
  refine j_aload_n C dX4_init_0 rfl rfl ?_
  refine j_objInit C q556 q163 q164 dX4_init_1 (Nat.le_of_ble_eq_true rfl) (by decide) ?_
  refine j_aload_n C dX4_init_4 rfl rfl ?_
  refine j_iload_n C dX4_init_5 rfl rfl ?_
  refine j_putF C hnm in_X4 tyX4 tyX4_ok nmX4 r (jset_at _ _ _) (hκ.cl rfl) 0 (by decide) q557 rfl rfl rfl (v := .int p1) rfl rfl rfl (by simp) dX4_init_6 ?_
  refine j_world (jset_jset w r _ _) ?_
  show J κ Γ _ _ (jset w r (q, .inr (oCi 4, [.int p1, v1, v2, v3]))) _ _ _ _ _
  refine j_aload_n C dX4_init_9 rfl rfl ?_
  refine j_iload_n C dX4_init_10 rfl rfl ?_
  refine j_putF C hnm in_X4 tyX4 tyX4_ok nmX4 r (jset_at _ _ _) (hκ.cl rfl) 1 (by decide) q559 rfl rfl rfl (v := .int p2) rfl rfl rfl (by simp) dX4_init_11 ?_
  refine j_world (jset_jset w r _ _) ?_
  show J κ Γ _ _ (jset w r (q, .inr (oCi 4, [.int p1, .int p2, v2, v3]))) _ _ _ _ _
  refine j_aload_n C dX4_init_14 rfl rfl ?_
  refine j_iload_n C dX4_init_15 rfl rfl ?_
  refine j_putF C hnm in_X4 tyX4 tyX4_ok nmX4 r (jset_at _ _ _) (hκ.cl rfl) 2 (by decide) q561 rfl rfl rfl (v := .int p3) rfl rfl rfl (by simp) dX4_init_16 ?_
  refine j_world (jset_jset w r _ _) ?_
  show J κ Γ _ _ (jset w r (q, .inr (oCi 4, [.int p1, .int p2, .int p3, v3]))) _ _ _ _ _
  refine j_aload_n C dX4_init_19 rfl rfl ?_
  refine j_iload C dX4_init_20 rfl ?_
  refine j_putF C hnm in_X4 tyX4 tyX4_ok nmX4 r (jset_at _ _ _) (hκ.cl rfl) 3 (by decide) q563 rfl rfl rfl (v := .int p4) rfl rfl rfl (by simp) dX4_init_22 ?_
  refine j_world (jset_jset w r _ _) ?_
  show J κ Γ _ _ (jset w r (q, .inr (oCi 4, [.int p1, .int p2, .int p3, .int p4]))) _ _ _ _ _
  exact j_vret C dX4_init_25 (Nat.zero_le _) (Nat.zero_le _) ⟨rfl, rfl⟩
theorem mt_i5_5 {κ : jK} (hκ : jX κ) (w : jW) (r q : Nat) (g : Nat) (v0 v1 v2 v3 : Value) : jM κ yX5_init (ws_ yX5_init cX5_init 2 none) 1 0 0 [.ref q, .ref g] (jset w r (q, .inr (oCi 5, [v0, v1, v2, v3]))) (fun u w' => u = none ∧ w' = jset w r (q, .inr (oCi 5, [v0, .int (-1), v2, .ref g]))) := by
  refine jM.of (by decide) rfl (Nat.le_of_ble_eq_true rfl) fun Γ C hnm => ?_
  show J κ Γ (1, 0, 0, (fun u w' => u = none ∧ w' = jset w r (q, .inr (oCi 5, [v0, .int (-1), v2, .ref g])))) 2 (jset w r (q, .inr (oCi 5, [v0, v1, v2, v3]))) 0 0 0 [some (.ref q), some (.ref g)] []
  refine j_aload_n C dX5_init_0 rfl rfl ?_
  refine j_aload_n C dX5_init_1 rfl rfl ?_
  refine j_putF C hnm in_X5 tyX5 tyX5_ok nmX5 r (jset_at _ _ _) (hκ.cl rfl) 3 (by decide) q596 rfl rfl rfl (v := .ref g) rfl rfl rfl (by simp) dX5_init_2 ?_
  refine j_world (jset_jset w r _ _) ?_
  show J κ Γ _ _ (jset w r (q, .inr (oCi 5, [v0, v1, v2, .ref g]))) _ _ _ _ _
  refine j_aload_n C dX5_init_5 rfl rfl ?_
  refine j_objInit C q591 q163 q164 dX5_init_6 (Nat.le_of_ble_eq_true rfl) (by decide) ?_
  refine j_aload_n C dX5_init_9 rfl rfl ?_
  refine j_iconst C (v := (-1)) dX5_init_10 rfl ?_
  refine j_put C in_X5 tyX5 tyX5_ok nmX5 r (jset_at _ _ _) (hκ.cl rfl) 1 (by decide) q593 rfl rfl (v := .int (-1)) rfl rfl rfl (by simp) dX5_init_11 ?_
  refine j_world (jset_jset w r _ _) ?_
  show J κ Γ _ _ (jset w r (q, .inr (oCi 5, [v0, .int (-1), v2, .ref g]))) _ _ _ _ _
  exact j_vret C dX5_init_14 (Nat.zero_le _) (Nat.zero_le _) ⟨rfl, rfl⟩
theorem mt_i6_6 {κ : jK} (hκ : jX κ) (w : jW) (r q : Nat) (v0 v1 v2 : Value) : jM κ yX6_init (ws_ yX6_init cX6_init 1 none) 1 0 0 [.ref q] (jset w r (q, .inr (oCi 6, [v0, v1, v2]))) (fun u w' => u = none ∧ w' = jset w r (q, .inr (oCi 6, [v0, v1, v2]))) := by
  refine jM.of (by decide) rfl (Nat.le_of_ble_eq_true rfl) fun Γ C hnm => ?_
  show J κ Γ (1, 0, 0, (fun u w' => u = none ∧ w' = jset w r (q, .inr (oCi 6, [v0, v1, v2])))) 1 (jset w r (q, .inr (oCi 6, [v0, v1, v2]))) 0 0 0 [some (.ref q)] []
  refine j_aload_n C dX6_init_0 rfl rfl ?_
  refine j_objInit C q619 q163 q164 dX6_init_1 (Nat.le_of_ble_eq_true rfl) (by decide) ?_
  exact j_vret C dX6_init_4 (Nat.zero_le _) (Nat.zero_le _) ⟨rfl, rfl⟩
theorem mt_iN7 {κ : jK} (hκ : jX κ) (w : jW) (q : Nat) : jM κ yX7_init (ws_ yX7_init cX7_init 1 none) 1 0 0 [.ref q] w (fun u w' => u = none ∧ w' = w) := by
  refine jM.of (by decide) rfl (Nat.le_of_ble_eq_true rfl) fun Γ C _ => ?_
  show J κ Γ (1, 0, 0, (fun u w' => u = none ∧ w' = w)) 1 w 0 0 0 [some (.ref q)] []
  refine j_aload_n C dX7_init_0 rfl rfl ?_
  refine j_objInit C q760 q163 q164 dX7_init_1 (Nat.le_of_ble_eq_true rfl) (by decide) ?_
  exact j_vret C dX7_init_4 (Nat.zero_le _) (Nat.zero_le _) ⟨rfl, rfl⟩
theorem mt_i8_8 {κ : jK} (hκ : jX κ) (w : jW) (r q : Nat) (p1 : Int32) (v0 : Value) : jM κ yX8_init (ws_ yX8_init cX8_init 2 none) 2 0 0 [.ref q, .int p1] (jset w r (q, .inr (oCi 8, [v0]))) (fun u w' => u = none ∧ w' = jset w r (q, .inr (oCi 8, [.int p1]))) := by
  refine jM.of (by decide) rfl (Nat.le_of_ble_eq_true rfl) fun Γ C hnm => ?_
  show J κ Γ (2, 0, 0, (fun u w' => u = none ∧ w' = jset w r (q, .inr (oCi 8, [.int p1])))) 2 (jset w r (q, .inr (oCi 8, [v0]))) 0 0 0 [some (.ref q), some (.int p1)] []
  refine j_aload_n C dX8_init_0 rfl rfl ?_
  refine j_callIN hκ C (As := []) (mt_iN7 hκ _ _) q759 q133 q757 q758 rfl (N := 0) ⟨by decide, by decide, by decide +kernel⟩ rfl dX8_init_1 ⟨Nat.le_of_ble_eq_true rfl, by decide, Nat.le_of_ble_eq_true rfl, Nat.le_of_ble_eq_true rfl, Nat.le_of_ble_eq_true rfl⟩ rfl (fun u w1 hp => ?_)
  obtain ⟨rfl, rfl⟩ := hp
  show J κ Γ _ _ (jset w r (q, .inr (oCi 8, [v0]))) _ _ _ _ _
  refine j_aload_n C dX8_init_4 rfl rfl ?_
  refine j_iload_n C dX8_init_5 rfl rfl ?_
  refine j_putF C hnm in_X8 tyX8 tyX8_ok nmX8 r (jset_at _ _ _) (hκ.cl rfl) 0 (by decide) q761 rfl rfl rfl (v := .int p1) rfl rfl rfl (by simp) dX8_init_6 ?_
  refine j_world (jset_jset w r _ _) ?_
  show J κ Γ _ _ (jset w r (q, .inr (oCi 8, [.int p1]))) _ _ _ _ _
  exact j_vret C dX8_init_9 (Nat.zero_le _) (Nat.zero_le _) ⟨rfl, rfl⟩
theorem mt_i9_9 {κ : jK} (hκ : jX κ) (w : jW) (r q : Nat) (p1 : Option Nat) (v0 : Value) : jM κ yX9_init (ws_ yX9_init cX9_init 2 none) 2 0 0 [.ref q, va_rf p1] (jset w r (q, .inr (oCi 9, [v0]))) (fun u w' => u = none ∧ w' = jset w r (q, .inr (oCi 9, [va_rf p1]))) := by
  refine jM.of (by decide) rfl (by cases p1 <;> exact Nat.le_of_ble_eq_true rfl) fun Γ C hnm => ?_
  rw [show jent [.ref q, va_rf p1] 2 = [some (.ref q), some (va_rf p1)] from by cases p1 <;> rfl]
  show J κ Γ (2, 0, 0, (fun u w' => u = none ∧ w' = jset w r (q, .inr (oCi 9, [va_rf p1])))) 2 (jset w r (q, .inr (oCi 9, [v0]))) 0 0 0 [some (.ref q), some (va_rf p1)] []
  refine j_aload_n C dX9_init_0 rfl rfl ?_
  refine j_callIN hκ C (As := []) (mt_iN7 hκ _ _) q759 q133 q778 q758 rfl (N := 0) ⟨by decide, by decide, by decide +kernel⟩ rfl dX9_init_1 ⟨Nat.le_of_ble_eq_true rfl, by decide, Nat.le_of_ble_eq_true rfl, Nat.le_of_ble_eq_true rfl, Nat.le_of_ble_eq_true rfl⟩ rfl (fun u w1 hp => ?_)
  obtain ⟨rfl, rfl⟩ := hp
  show J κ Γ _ _ (jset w r (q, .inr (oCi 9, [v0]))) _ _ _ _ _
  refine j_aload_n C dX9_init_4 rfl rfl ?_
  refine j_aloadE_n C (e := p1) dX9_init_5 rfl rfl ?_
  refine j_putF C hnm in_X9 tyX9 tyX9_ok nmX9 r (jset_at _ _ _) (hκ.cl rfl) 0 (by decide) q779 rfl rfl rfl (v := va_rf p1) rfl (by cases p1 <;> rfl) (by cases p1 <;> rfl) (by simp) dX9_init_6 ?_
  refine j_world (jset_jset w r _ _) ?_
  show J κ Γ _ _ (jset w r (q, .inr (oCi 9, [va_rf p1]))) _ _ _ _ _
  exact j_vret C dX9_init_9 (Nat.zero_le _) (Nat.zero_le _) ⟨rfl, rfl⟩
theorem mt_i10_10 {κ : jK} (hκ : jX κ) (w : jW) (r q : Nat) (p1 : Option Nat) (v0 : Value) : jM κ yX10_init (ws_ yX10_init cX10_init 2 none) 2 0 0 [.ref q, va_rf p1] (jset w r (q, .inr (oCi 10, [v0]))) (fun u w' => u = none ∧ w' = jset w r (q, .inr (oCi 10, [va_rf p1]))) := by
  refine jM.of (by decide) rfl (by cases p1 <;> exact Nat.le_of_ble_eq_true rfl) fun Γ C hnm => ?_
  rw [show jent [.ref q, va_rf p1] 2 = [some (.ref q), some (va_rf p1)] from by cases p1 <;> rfl]
  show J κ Γ (2, 0, 0, (fun u w' => u = none ∧ w' = jset w r (q, .inr (oCi 10, [va_rf p1])))) 2 (jset w r (q, .inr (oCi 10, [v0]))) 0 0 0 [some (.ref q), some (va_rf p1)] []
  refine j_aload_n C dX10_init_0 rfl rfl ?_
  refine j_callIN hκ C (As := []) (mt_iN7 hκ _ _) q759 q133 q788 q758 rfl (N := 0) ⟨by decide, by decide, by decide +kernel⟩ rfl dX10_init_1 ⟨Nat.le_of_ble_eq_true rfl, by decide, Nat.le_of_ble_eq_true rfl, Nat.le_of_ble_eq_true rfl, Nat.le_of_ble_eq_true rfl⟩ rfl (fun u w1 hp => ?_)
  obtain ⟨rfl, rfl⟩ := hp
  show J κ Γ _ _ (jset w r (q, .inr (oCi 10, [v0]))) _ _ _ _ _
  refine j_aload_n C dX10_init_4 rfl rfl ?_
  refine j_aloadE_n C (e := p1) dX10_init_5 rfl rfl ?_
  refine j_putF C hnm in_X10 tyX10 tyX10_ok nmX10 r (jset_at _ _ _) (hκ.cl rfl) 0 (by decide) q789 rfl rfl rfl (v := va_rf p1) rfl (by cases p1 <;> rfl) (by cases p1 <;> rfl) (by simp) dX10_init_6 ?_
  refine j_world (jset_jset w r _ _) ?_
  show J κ Γ _ _ (jset w r (q, .inr (oCi 10, [va_rf p1]))) _ _ _ _ _
  exact j_vret C dX10_init_9 (Nat.zero_le _) (Nat.zero_le _) ⟨rfl, rfl⟩
theorem mt_i11_11 {κ : jK} (hκ : jX κ) (w : jW) (r q : Nat) (p1 : Int32) (v0 : Value) : jM κ yX11_init (ws_ yX11_init cX11_init 2 none) 2 0 0 [.ref q, .int p1] (jset w r (q, .inr (oCi 11, [v0]))) (fun u w' => u = none ∧ w' = jset w r (q, .inr (oCi 11, [.int p1]))) := by
  refine jM.of (by decide) rfl (Nat.le_of_ble_eq_true rfl) fun Γ C hnm => ?_
  show J κ Γ (2, 0, 0, (fun u w' => u = none ∧ w' = jset w r (q, .inr (oCi 11, [.int p1])))) 2 (jset w r (q, .inr (oCi 11, [v0]))) 0 0 0 [some (.ref q), some (.int p1)] []
  refine j_aload_n C dX11_init_0 rfl rfl ?_
  refine j_callIN hκ C (As := []) (mt_iN7 hκ _ _) q759 q133 q799 q758 rfl (N := 0) ⟨by decide, by decide, by decide +kernel⟩ rfl dX11_init_1 ⟨Nat.le_of_ble_eq_true rfl, by decide, Nat.le_of_ble_eq_true rfl, Nat.le_of_ble_eq_true rfl, Nat.le_of_ble_eq_true rfl⟩ rfl (fun u w1 hp => ?_)
  obtain ⟨rfl, rfl⟩ := hp
  show J κ Γ _ _ (jset w r (q, .inr (oCi 11, [v0]))) _ _ _ _ _
  refine j_aload_n C dX11_init_4 rfl rfl ?_
  refine j_iload_n C dX11_init_5 rfl rfl ?_
  refine j_putF C hnm in_X11 tyX11 tyX11_ok nmX11 r (jset_at _ _ _) (hκ.cl rfl) 0 (by decide) q800 rfl rfl rfl (v := .int p1) rfl rfl rfl (by simp) dX11_init_6 ?_
  refine j_world (jset_jset w r _ _) ?_
  show J κ Γ _ _ (jset w r (q, .inr (oCi 11, [.int p1]))) _ _ _ _ _
  exact j_vret C dX11_init_9 (Nat.zero_le _) (Nat.zero_le _) ⟨rfl, rfl⟩
theorem mt_i12_12 {κ : jK} (hκ : jX κ) (w : jW) (r q : Nat) (p1 : Int32) (p2 : Option Nat) (p3 : Option Nat) (v0 v1 v2 : Value) : jM κ yX12_init (ws_ yX12_init cX12_init 4 none) 2 0 0 [.ref q, .int p1, va_rf p2, va_rf p3] (jset w r (q, .inr (oCi 12, [v0, v1, v2]))) (fun u w' => u = none ∧ w' = jset w r (q, .inr (oCi 12, [.int p1, va_rf p2, va_rf p3]))) := by
  refine jM.of (by decide) rfl (by cases p2 <;> cases p3 <;> exact Nat.le_of_ble_eq_true rfl) fun Γ C hnm => ?_
  rw [show jent [.ref q, .int p1, va_rf p2, va_rf p3] 4 = [some (.ref q), some (.int p1), some (va_rf p2), some (va_rf p3)] from by cases p2 <;> cases p3 <;> rfl]
  show J κ Γ (2, 0, 0, (fun u w' => u = none ∧ w' = jset w r (q, .inr (oCi 12, [.int p1, va_rf p2, va_rf p3])))) 4 (jset w r (q, .inr (oCi 12, [v0, v1, v2]))) 0 0 0 [some (.ref q), some (.int p1), some (va_rf p2), some (va_rf p3)] []
  refine j_aload_n C dX12_init_0 rfl rfl ?_
  refine j_callIN hκ C (As := []) (mt_iN7 hκ _ _) q759 q133 q814 q758 rfl (N := 0) ⟨by decide, by decide, by decide +kernel⟩ rfl dX12_init_1 ⟨Nat.le_of_ble_eq_true rfl, by decide, Nat.le_of_ble_eq_true rfl, Nat.le_of_ble_eq_true rfl, Nat.le_of_ble_eq_true rfl⟩ rfl (fun u w1 hp => ?_)
  obtain ⟨rfl, rfl⟩ := hp
  show J κ Γ _ _ (jset w r (q, .inr (oCi 12, [v0, v1, v2]))) _ _ _ _ _
  refine j_aload_n C dX12_init_4 rfl rfl ?_
  refine j_iload_n C dX12_init_5 rfl rfl ?_
  refine j_putF C hnm in_X12 tyX12 tyX12_ok nmX12 r (jset_at _ _ _) (hκ.cl rfl) 0 (by decide) q815 rfl rfl rfl (v := .int p1) rfl rfl rfl (by simp) dX12_init_6 ?_
  refine j_world (jset_jset w r _ _) ?_
  show J κ Γ _ _ (jset w r (q, .inr (oCi 12, [.int p1, v1, v2]))) _ _ _ _ _
  refine j_aload_n C dX12_init_9 rfl rfl ?_
  refine j_aloadE_n C (e := p2) dX12_init_10 rfl rfl ?_
  refine j_putF C hnm in_X12 tyX12 tyX12_ok nmX12 r (jset_at _ _ _) (hκ.cl rfl) 1 (by decide) q816 rfl rfl rfl (v := va_rf p2) rfl (by cases p2 <;> rfl) (by cases p2 <;> rfl) (by simp) dX12_init_11 ?_
  refine j_world (jset_jset w r _ _) ?_
  show J κ Γ _ _ (jset w r (q, .inr (oCi 12, [.int p1, va_rf p2, v2]))) _ _ _ _ _
  refine j_aload_n C dX12_init_14 rfl rfl ?_
  refine j_aloadE_n C (e := p3) dX12_init_15 rfl rfl ?_
  refine j_putF C hnm in_X12 tyX12 tyX12_ok nmX12 r (jset_at _ _ _) (hκ.cl rfl) 2 (by decide) q817 rfl rfl rfl (v := va_rf p3) rfl (by cases p3 <;> rfl) (by cases p3 <;> rfl) (by simp) dX12_init_16 ?_
  refine j_world (jset_jset w r _ _) ?_
  show J κ Γ _ _ (jset w r (q, .inr (oCi 12, [.int p1, va_rf p2, va_rf p3]))) _ _ _ _ _
  exact j_vret C dX12_init_19 (Nat.zero_le _) (Nat.zero_le _) ⟨rfl, rfl⟩
theorem mt_iN13 {κ : jK} (hκ : jX κ) (w : jW) (q : Nat) : jM κ yX13_init (ws_ yX13_init cX13_init 1 none) 1 0 0 [.ref q] w (fun u w' => u = none ∧ w' = w) := by
  refine jM.of (by decide) rfl (Nat.le_of_ble_eq_true rfl) fun Γ C _ => ?_
  show J κ Γ (1, 0, 0, (fun u w' => u = none ∧ w' = w)) 1 w 0 0 0 [some (.ref q)] []
  refine j_aload_n C dX13_init_0 rfl rfl ?_
  refine j_objInit C q1173 q163 q164 dX13_init_1 (Nat.le_of_ble_eq_true rfl) (by decide) ?_
  exact j_vret C dX13_init_4 (Nat.zero_le _) (Nat.zero_le _) ⟨rfl, rfl⟩
theorem mt_i14_14 {κ : jK} (hκ : jX κ) (w : jW) (r q : Nat) (g : Nat) (p2 : Int32) (v0 v1 : Value) : jM κ yX14_init (ws_ yX14_init cX14_init 3 none) 2 0 0 [.ref q, .ref g, .int p2] (jset w r (q, .inr (oCi 14, [v0, v1]))) (fun u w' => u = none ∧ w' = jset w r (q, .inr (oCi 14, [.int p2, .ref g]))) := by
  refine jM.of (by decide) rfl (Nat.le_of_ble_eq_true rfl) fun Γ C hnm => ?_
  show J κ Γ (2, 0, 0, (fun u w' => u = none ∧ w' = jset w r (q, .inr (oCi 14, [.int p2, .ref g])))) 3 (jset w r (q, .inr (oCi 14, [v0, v1]))) 0 0 0 [some (.ref q), some (.ref g), some (.int p2)] []
  refine j_aload_n C dX14_init_0 rfl rfl ?_
  refine j_aload_n C dX14_init_1 rfl rfl ?_
  refine j_putF2 C hnm in_X14 tyX14 tyX14_ok (by decide) (by decide) r (jset_at _ _ _) (hκ.cl rfl) 1 (by decide) q1176 rfl rfl (v := .ref g) rfl rfl rfl (by simp) dX14_init_2 ?_
  refine j_world (jset_jset w r _ _) ?_
  show J κ Γ _ _ (jset w r (q, .inr (oCi 14, [v0, .ref g]))) _ _ _ _ _
  refine j_aload_n C dX14_init_5 rfl rfl ?_
  refine j_callIN hκ C (As := []) (mt_iN13 hκ _ _) q1172 q140 q1170 q1171 rfl (N := 0) ⟨by decide, by decide, by decide +kernel⟩ rfl dX14_init_6 ⟨Nat.le_of_ble_eq_true rfl, by decide, Nat.le_of_ble_eq_true rfl, Nat.le_of_ble_eq_true rfl, Nat.le_of_ble_eq_true rfl⟩ rfl (fun u w1 hp => ?_)
  obtain ⟨rfl, rfl⟩ := hp
  show J κ Γ _ _ (jset w r (q, .inr (oCi 14, [v0, .ref g]))) _ _ _ _ _
  refine j_aload_n C dX14_init_9 rfl rfl ?_
  refine j_iload_n C dX14_init_10 rfl rfl ?_
  refine j_putF2 C hnm in_X14 tyX14 tyX14_ok (by decide) (by decide) r (jset_at _ _ _) (hκ.cl rfl) 0 (by decide) q1175 rfl rfl (v := .int p2) rfl rfl rfl (by simp) dX14_init_11 ?_
  refine j_world (jset_jset w r _ _) ?_
  show J κ Γ _ _ (jset w r (q, .inr (oCi 14, [.int p2, .ref g]))) _ _ _ _ _
  exact j_vret C dX14_init_14 (Nat.zero_le _) (Nat.zero_le _) ⟨rfl, rfl⟩
theorem mt_i15_14 {κ : jK} (hκ : jX κ) (w : jW) (r q : Nat) (g : Nat) (p2 : Int32) (v0 v1 v2 : Value) : jM κ yX14_init (ws_ yX14_init cX14_init 3 none) 2 0 0 [.ref q, .ref g, .int p2] (jset w r (q, .inr (oCi 15, [v0, v1, v2]))) (fun u w' => u = none ∧ w' = jset w r (q, .inr (oCi 15, [.int p2, .ref g, v2]))) := by
  refine jM.of (by decide) rfl (Nat.le_of_ble_eq_true rfl) fun Γ C hnm => ?_
  show J κ Γ (2, 0, 0, (fun u w' => u = none ∧ w' = jset w r (q, .inr (oCi 15, [.int p2, .ref g, v2])))) 3 (jset w r (q, .inr (oCi 15, [v0, v1, v2]))) 0 0 0 [some (.ref q), some (.ref g), some (.int p2)] []
  refine j_aload_n C dX14_init_0 rfl rfl ?_
  refine j_aload_n C dX14_init_1 rfl rfl ?_
  refine j_putF2 C hnm in_X15 tyX15 tyX15_ok (by decide) (by decide) r (jset_at _ _ _) (hκ.cl rfl) 1 (by decide) q1176 rfl rfl (v := .ref g) rfl rfl rfl (by simp) dX14_init_2 ?_
  refine j_world (jset_jset w r _ _) ?_
  show J κ Γ _ _ (jset w r (q, .inr (oCi 15, [v0, .ref g, v2]))) _ _ _ _ _
  refine j_aload_n C dX14_init_5 rfl rfl ?_
  refine j_callIN hκ C (As := []) (mt_iN13 hκ _ _) q1172 q140 q1170 q1171 rfl (N := 0) ⟨by decide, by decide, by decide +kernel⟩ rfl dX14_init_6 ⟨Nat.le_of_ble_eq_true rfl, by decide, Nat.le_of_ble_eq_true rfl, Nat.le_of_ble_eq_true rfl, Nat.le_of_ble_eq_true rfl⟩ rfl (fun u w1 hp => ?_)
  obtain ⟨rfl, rfl⟩ := hp
  show J κ Γ _ _ (jset w r (q, .inr (oCi 15, [v0, .ref g, v2]))) _ _ _ _ _
  refine j_aload_n C dX14_init_9 rfl rfl ?_
  refine j_iload_n C dX14_init_10 rfl rfl ?_
  refine j_putF2 C hnm in_X15 tyX15 tyX15_ok (by decide) (by decide) r (jset_at _ _ _) (hκ.cl rfl) 0 (by decide) q1175 rfl rfl (v := .int p2) rfl rfl rfl (by simp) dX14_init_11 ?_
  refine j_world (jset_jset w r _ _) ?_
  show J κ Γ _ _ (jset w r (q, .inr (oCi 15, [.int p2, .ref g, v2]))) _ _ _ _ _
  exact j_vret C dX14_init_14 (Nat.zero_le _) (Nat.zero_le _) ⟨rfl, rfl⟩
theorem mt_i15_15 {κ : jK} (hκ : jX κ) (w : jW) (r q : Nat) (g : Nat) (p2 : Int32) (v0 v1 v2 : Value) : jM κ yX15_init (ws_ yX15_init cX15_init 3 none) 3 0 0 [.ref q, .ref g, .int p2] (jset w r (q, .inr (oCi 15, [v0, v1, v2]))) (fun u w' => u = none ∧ w' = jset w r (q, .inr (oCi 15, [.int p2, .ref g, .ref g]))) := by
  refine jM.of (by decide) rfl (Nat.le_of_ble_eq_true rfl) fun Γ C hnm => ?_
  show J κ Γ (3, 0, 0, (fun u w' => u = none ∧ w' = jset w r (q, .inr (oCi 15, [.int p2, .ref g, .ref g])))) 3 (jset w r (q, .inr (oCi 15, [v0, v1, v2]))) 0 0 0 [some (.ref q), some (.ref g), some (.int p2)] []
  refine j_aload_n C dX15_init_0 rfl rfl ?_
  refine j_aload_n C dX15_init_1 rfl rfl ?_
  refine j_putF2 C hnm in_X15 tyX15 tyX15_ok (by decide) (by decide) r (jset_at _ _ _) (hκ.cl rfl) 2 (by decide) q1174 rfl rfl (v := .ref g) rfl rfl rfl (by simp) dX15_init_2 ?_
  refine j_world (jset_jset w r _ _) ?_
  show J κ Γ _ _ (jset w r (q, .inr (oCi 15, [v0, v1, .ref g]))) _ _ _ _ _
  refine j_aload_n C dX15_init_5 rfl rfl ?_
  refine j_aload_n C dX15_init_6 rfl rfl ?_
  refine j_iload_n C dX15_init_7 rfl rfl ?_
  refine j_callI hκ.1.1 C (As := [.ref g, .int p2]) (mt_i15_14 hκ _ _ _ _ _ _ _ _) q1169 q141 q1167 q1168 rfl (N := 2) ⟨by decide, by decide, by decide +kernel⟩ rfl dX15_init_8 ⟨Nat.le_of_ble_eq_true rfl, by decide, Nat.le_of_ble_eq_true rfl, Nat.le_of_ble_eq_true rfl, Nat.le_of_ble_eq_true rfl⟩ rfl (fun u w1 hp => ?_)
  obtain ⟨rfl, rfl⟩ := hp
  show J κ Γ _ _ (jset w r (q, .inr (oCi 15, [.int p2, .ref g, .ref g]))) _ _ _ _ _
  exact j_vret C dX15_init_11 (Nat.zero_le _) (Nat.zero_le _) ⟨rfl, rfl⟩
theorem mt_i16_14 {κ : jK} (hκ : jX κ) (w : jW) (r q : Nat) (g : Nat) (p2 : Int32) (v0 v1 v2 : Value) : jM κ yX14_init (ws_ yX14_init cX14_init 3 none) 2 0 0 [.ref q, .ref g, .int p2] (jset w r (q, .inr (oCi 16, [v0, v1, v2]))) (fun u w' => u = none ∧ w' = jset w r (q, .inr (oCi 16, [.int p2, .ref g, v2]))) := by
  refine jM.of (by decide) rfl (Nat.le_of_ble_eq_true rfl) fun Γ C hnm => ?_
  show J κ Γ (2, 0, 0, (fun u w' => u = none ∧ w' = jset w r (q, .inr (oCi 16, [.int p2, .ref g, v2])))) 3 (jset w r (q, .inr (oCi 16, [v0, v1, v2]))) 0 0 0 [some (.ref q), some (.ref g), some (.int p2)] []
  refine j_aload_n C dX14_init_0 rfl rfl ?_
  refine j_aload_n C dX14_init_1 rfl rfl ?_
  refine j_putF2 C hnm in_X16 tyX16 tyX16_ok (by decide) (by decide) r (jset_at _ _ _) (hκ.cl rfl) 1 (by decide) q1176 rfl rfl (v := .ref g) rfl rfl rfl (by simp) dX14_init_2 ?_
  refine j_world (jset_jset w r _ _) ?_
  show J κ Γ _ _ (jset w r (q, .inr (oCi 16, [v0, .ref g, v2]))) _ _ _ _ _
  refine j_aload_n C dX14_init_5 rfl rfl ?_
  refine j_callIN hκ C (As := []) (mt_iN13 hκ _ _) q1172 q140 q1170 q1171 rfl (N := 0) ⟨by decide, by decide, by decide +kernel⟩ rfl dX14_init_6 ⟨Nat.le_of_ble_eq_true rfl, by decide, Nat.le_of_ble_eq_true rfl, Nat.le_of_ble_eq_true rfl, Nat.le_of_ble_eq_true rfl⟩ rfl (fun u w1 hp => ?_)
  obtain ⟨rfl, rfl⟩ := hp
  show J κ Γ _ _ (jset w r (q, .inr (oCi 16, [v0, .ref g, v2]))) _ _ _ _ _
  refine j_aload_n C dX14_init_9 rfl rfl ?_
  refine j_iload_n C dX14_init_10 rfl rfl ?_
  refine j_putF2 C hnm in_X16 tyX16 tyX16_ok (by decide) (by decide) r (jset_at _ _ _) (hκ.cl rfl) 0 (by decide) q1175 rfl rfl (v := .int p2) rfl rfl rfl (by simp) dX14_init_11 ?_
  refine j_world (jset_jset w r _ _) ?_
  show J κ Γ _ _ (jset w r (q, .inr (oCi 16, [.int p2, .ref g, v2]))) _ _ _ _ _
  exact j_vret C dX14_init_14 (Nat.zero_le _) (Nat.zero_le _) ⟨rfl, rfl⟩
theorem mt_i16_16 {κ : jK} (hκ : jX κ) (w : jW) (r q : Nat) (g : Nat) (p2 : Int32) (v0 v1 v2 : Value) : jM κ yX16_init (ws_ yX16_init cX16_init 3 none) 3 0 0 [.ref q, .ref g, .int p2] (jset w r (q, .inr (oCi 16, [v0, v1, v2]))) (fun u w' => u = none ∧ w' = jset w r (q, .inr (oCi 16, [.int p2, .ref g, .ref g]))) := by
  refine jM.of (by decide) rfl (Nat.le_of_ble_eq_true rfl) fun Γ C hnm => ?_
  show J κ Γ (3, 0, 0, (fun u w' => u = none ∧ w' = jset w r (q, .inr (oCi 16, [.int p2, .ref g, .ref g])))) 3 (jset w r (q, .inr (oCi 16, [v0, v1, v2]))) 0 0 0 [some (.ref q), some (.ref g), some (.int p2)] []
  refine j_aload_n C dX16_init_0 rfl rfl ?_
  refine j_aload_n C dX16_init_1 rfl rfl ?_
  refine j_putF2 C hnm in_X16 tyX16 tyX16_ok (by decide) (by decide) r (jset_at _ _ _) (hκ.cl rfl) 2 (by decide) q1190 rfl rfl (v := .ref g) rfl rfl rfl (by simp) dX16_init_2 ?_
  refine j_world (jset_jset w r _ _) ?_
  show J κ Γ _ _ (jset w r (q, .inr (oCi 16, [v0, v1, .ref g]))) _ _ _ _ _
  refine j_aload_n C dX16_init_5 rfl rfl ?_
  refine j_aload_n C dX16_init_6 rfl rfl ?_
  refine j_iload_n C dX16_init_7 rfl rfl ?_
  refine j_callI hκ.1.1 C (As := [.ref g, .int p2]) (mt_i16_14 hκ _ _ _ _ _ _ _ _) q1169 q141 q1189 q1168 rfl (N := 2) ⟨by decide, by decide, by decide +kernel⟩ rfl dX16_init_8 ⟨Nat.le_of_ble_eq_true rfl, by decide, Nat.le_of_ble_eq_true rfl, Nat.le_of_ble_eq_true rfl, Nat.le_of_ble_eq_true rfl⟩ rfl (fun u w1 hp => ?_)
  obtain ⟨rfl, rfl⟩ := hp
  show J κ Γ _ _ (jset w r (q, .inr (oCi 16, [.int p2, .ref g, .ref g]))) _ _ _ _ _
  exact j_vret C dX16_init_11 (Nat.zero_le _) (Nat.zero_le _) ⟨rfl, rfl⟩
theorem mt_i17_14 {κ : jK} (hκ : jX κ) (w : jW) (r q : Nat) (g : Nat) (p2 : Int32) (v0 v1 v2 v3 : Value) : jM κ yX14_init (ws_ yX14_init cX14_init 3 none) 2 0 0 [.ref q, .ref g, .int p2] (jset w r (q, .inr (oCi 17, [v0, v1, v2, v3]))) (fun u w' => u = none ∧ w' = jset w r (q, .inr (oCi 17, [.int p2, .ref g, v2, v3]))) := by
  refine jM.of (by decide) rfl (Nat.le_of_ble_eq_true rfl) fun Γ C hnm => ?_
  show J κ Γ (2, 0, 0, (fun u w' => u = none ∧ w' = jset w r (q, .inr (oCi 17, [.int p2, .ref g, v2, v3])))) 3 (jset w r (q, .inr (oCi 17, [v0, v1, v2, v3]))) 0 0 0 [some (.ref q), some (.ref g), some (.int p2)] []
  refine j_aload_n C dX14_init_0 rfl rfl ?_
  refine j_aload_n C dX14_init_1 rfl rfl ?_
  refine j_putF2 C hnm in_X17 tyX17 tyX17_ok (by decide) (by decide) r (jset_at _ _ _) (hκ.cl rfl) 1 (by decide) q1176 rfl rfl (v := .ref g) rfl rfl rfl (by simp) dX14_init_2 ?_
  refine j_world (jset_jset w r _ _) ?_
  show J κ Γ _ _ (jset w r (q, .inr (oCi 17, [v0, .ref g, v2, v3]))) _ _ _ _ _
  refine j_aload_n C dX14_init_5 rfl rfl ?_
  refine j_callIN hκ C (As := []) (mt_iN13 hκ _ _) q1172 q140 q1170 q1171 rfl (N := 0) ⟨by decide, by decide, by decide +kernel⟩ rfl dX14_init_6 ⟨Nat.le_of_ble_eq_true rfl, by decide, Nat.le_of_ble_eq_true rfl, Nat.le_of_ble_eq_true rfl, Nat.le_of_ble_eq_true rfl⟩ rfl (fun u w1 hp => ?_)
  obtain ⟨rfl, rfl⟩ := hp
  show J κ Γ _ _ (jset w r (q, .inr (oCi 17, [v0, .ref g, v2, v3]))) _ _ _ _ _
  refine j_aload_n C dX14_init_9 rfl rfl ?_
  refine j_iload_n C dX14_init_10 rfl rfl ?_
  refine j_putF2 C hnm in_X17 tyX17 tyX17_ok (by decide) (by decide) r (jset_at _ _ _) (hκ.cl rfl) 0 (by decide) q1175 rfl rfl (v := .int p2) rfl rfl rfl (by simp) dX14_init_11 ?_
  refine j_world (jset_jset w r _ _) ?_
  show J κ Γ _ _ (jset w r (q, .inr (oCi 17, [.int p2, .ref g, v2, v3]))) _ _ _ _ _
  exact j_vret C dX14_init_14 (Nat.zero_le _) (Nat.zero_le _) ⟨rfl, rfl⟩
theorem mt_i17_16 {κ : jK} (hκ : jX κ) (w : jW) (r q : Nat) (g : Nat) (p2 : Int32) (v0 v1 v2 v3 : Value) : jM κ yX16_init (ws_ yX16_init cX16_init 3 none) 3 0 0 [.ref q, .ref g, .int p2] (jset w r (q, .inr (oCi 17, [v0, v1, v2, v3]))) (fun u w' => u = none ∧ w' = jset w r (q, .inr (oCi 17, [.int p2, .ref g, .ref g, v3]))) := by
  refine jM.of (by decide) rfl (Nat.le_of_ble_eq_true rfl) fun Γ C hnm => ?_
  show J κ Γ (3, 0, 0, (fun u w' => u = none ∧ w' = jset w r (q, .inr (oCi 17, [.int p2, .ref g, .ref g, v3])))) 3 (jset w r (q, .inr (oCi 17, [v0, v1, v2, v3]))) 0 0 0 [some (.ref q), some (.ref g), some (.int p2)] []
  refine j_aload_n C dX16_init_0 rfl rfl ?_
  refine j_aload_n C dX16_init_1 rfl rfl ?_
  refine j_putF2 C hnm in_X17 tyX17 tyX17_ok (by decide) (by decide) r (jset_at _ _ _) (hκ.cl rfl) 2 (by decide) q1190 rfl rfl (v := .ref g) rfl rfl rfl (by simp) dX16_init_2 ?_
  refine j_world (jset_jset w r _ _) ?_
  show J κ Γ _ _ (jset w r (q, .inr (oCi 17, [v0, v1, .ref g, v3]))) _ _ _ _ _
  refine j_aload_n C dX16_init_5 rfl rfl ?_
  refine j_aload_n C dX16_init_6 rfl rfl ?_
  refine j_iload_n C dX16_init_7 rfl rfl ?_
  refine j_callI hκ.1.1 C (As := [.ref g, .int p2]) (mt_i17_14 hκ _ _ _ _ _ _ _ _ _) q1169 q141 q1189 q1168 rfl (N := 2) ⟨by decide, by decide, by decide +kernel⟩ rfl dX16_init_8 ⟨Nat.le_of_ble_eq_true rfl, by decide, Nat.le_of_ble_eq_true rfl, Nat.le_of_ble_eq_true rfl, Nat.le_of_ble_eq_true rfl⟩ rfl (fun u w1 hp => ?_)
  obtain ⟨rfl, rfl⟩ := hp
  show J κ Γ _ _ (jset w r (q, .inr (oCi 17, [.int p2, .ref g, .ref g, v3]))) _ _ _ _ _
  exact j_vret C dX16_init_11 (Nat.zero_le _) (Nat.zero_le _) ⟨rfl, rfl⟩
theorem mt_i17_17 {κ : jK} (hκ : jX κ) (w : jW) (r q : Nat) (g : Nat) (p2 : Int32) (v0 v1 v2 v3 : Value) : jM κ yX17_init (ws_ yX17_init cX17_init 3 none) 4 0 0 [.ref q, .ref g, .int p2] (jset w r (q, .inr (oCi 17, [v0, v1, v2, v3]))) (fun u w' => u = none ∧ w' = jset w r (q, .inr (oCi 17, [.int p2, .ref g, .ref g, .ref g]))) := by
  refine jM.of (by decide) rfl (Nat.le_of_ble_eq_true rfl) fun Γ C hnm => ?_
  show J κ Γ (4, 0, 0, (fun u w' => u = none ∧ w' = jset w r (q, .inr (oCi 17, [.int p2, .ref g, .ref g, .ref g])))) 3 (jset w r (q, .inr (oCi 17, [v0, v1, v2, v3]))) 0 0 0 [some (.ref q), some (.ref g), some (.int p2)] []
  refine j_aload_n C dX17_init_0 rfl rfl ?_
  refine j_aload_n C dX17_init_1 rfl rfl ?_
  refine j_putF2 C hnm in_X17 tyX17 tyX17_ok (by decide) (by decide) r (jset_at _ _ _) (hκ.cl rfl) 3 (by decide) q1202 rfl rfl (v := .ref g) rfl rfl rfl (by simp) dX17_init_2 ?_
  refine j_world (jset_jset w r _ _) ?_
  show J κ Γ _ _ (jset w r (q, .inr (oCi 17, [v0, v1, v2, .ref g]))) _ _ _ _ _
  refine j_aload_n C dX17_init_5 rfl rfl ?_
  refine j_aload_n C dX17_init_6 rfl rfl ?_
  refine j_iload_n C dX17_init_7 rfl rfl ?_
  refine j_callI hκ.1.1 C (As := [.ref g, .int p2]) (mt_i17_16 hκ _ _ _ _ _ _ _ _ _) q1188 q143 q1201 q1187 rfl (N := 2) ⟨by decide, by decide, by decide +kernel⟩ rfl dX17_init_8 ⟨Nat.le_of_ble_eq_true rfl, by decide, Nat.le_of_ble_eq_true rfl, Nat.le_of_ble_eq_true rfl, Nat.le_of_ble_eq_true rfl⟩ rfl (fun u w1 hp => ?_)
  obtain ⟨rfl, rfl⟩ := hp
  show J κ Γ _ _ (jset w r (q, .inr (oCi 17, [.int p2, .ref g, .ref g, .ref g]))) _ _ _ _ _
  exact j_vret C dX17_init_11 (Nat.zero_le _) (Nat.zero_le _) ⟨rfl, rfl⟩
theorem mt_i18_14 {κ : jK} (hκ : jX κ) (w : jW) (r q : Nat) (g : Nat) (p2 : Int32) (v0 v1 v2 v3 : Value) : jM κ yX14_init (ws_ yX14_init cX14_init 3 none) 2 0 0 [.ref q, .ref g, .int p2] (jset w r (q, .inr (oCi 18, [v0, v1, v2, v3]))) (fun u w' => u = none ∧ w' = jset w r (q, .inr (oCi 18, [.int p2, .ref g, v2, v3]))) := by
  refine jM.of (by decide) rfl (Nat.le_of_ble_eq_true rfl) fun Γ C hnm => ?_
  show J κ Γ (2, 0, 0, (fun u w' => u = none ∧ w' = jset w r (q, .inr (oCi 18, [.int p2, .ref g, v2, v3])))) 3 (jset w r (q, .inr (oCi 18, [v0, v1, v2, v3]))) 0 0 0 [some (.ref q), some (.ref g), some (.int p2)] []
  refine j_aload_n C dX14_init_0 rfl rfl ?_
  refine j_aload_n C dX14_init_1 rfl rfl ?_
  refine j_putF2 C hnm in_X18 tyX18 tyX18_ok (by decide) (by decide) r (jset_at _ _ _) (hκ.cl rfl) 1 (by decide) q1176 rfl rfl (v := .ref g) rfl rfl rfl (by simp) dX14_init_2 ?_
  refine j_world (jset_jset w r _ _) ?_
  show J κ Γ _ _ (jset w r (q, .inr (oCi 18, [v0, .ref g, v2, v3]))) _ _ _ _ _
  refine j_aload_n C dX14_init_5 rfl rfl ?_
  refine j_callIN hκ C (As := []) (mt_iN13 hκ _ _) q1172 q140 q1170 q1171 rfl (N := 0) ⟨by decide, by decide, by decide +kernel⟩ rfl dX14_init_6 ⟨Nat.le_of_ble_eq_true rfl, by decide, Nat.le_of_ble_eq_true rfl, Nat.le_of_ble_eq_true rfl, Nat.le_of_ble_eq_true rfl⟩ rfl (fun u w1 hp => ?_)
  obtain ⟨rfl, rfl⟩ := hp
  show J κ Γ _ _ (jset w r (q, .inr (oCi 18, [v0, .ref g, v2, v3]))) _ _ _ _ _
  refine j_aload_n C dX14_init_9 rfl rfl ?_
  refine j_iload_n C dX14_init_10 rfl rfl ?_
  refine j_putF2 C hnm in_X18 tyX18 tyX18_ok (by decide) (by decide) r (jset_at _ _ _) (hκ.cl rfl) 0 (by decide) q1175 rfl rfl (v := .int p2) rfl rfl rfl (by simp) dX14_init_11 ?_
  refine j_world (jset_jset w r _ _) ?_
  show J κ Γ _ _ (jset w r (q, .inr (oCi 18, [.int p2, .ref g, v2, v3]))) _ _ _ _ _
  exact j_vret C dX14_init_14 (Nat.zero_le _) (Nat.zero_le _) ⟨rfl, rfl⟩
theorem mt_i18_15 {κ : jK} (hκ : jX κ) (w : jW) (r q : Nat) (g : Nat) (p2 : Int32) (v0 v1 v2 v3 : Value) : jM κ yX15_init (ws_ yX15_init cX15_init 3 none) 3 0 0 [.ref q, .ref g, .int p2] (jset w r (q, .inr (oCi 18, [v0, v1, v2, v3]))) (fun u w' => u = none ∧ w' = jset w r (q, .inr (oCi 18, [.int p2, .ref g, .ref g, v3]))) := by
  refine jM.of (by decide) rfl (Nat.le_of_ble_eq_true rfl) fun Γ C hnm => ?_
  show J κ Γ (3, 0, 0, (fun u w' => u = none ∧ w' = jset w r (q, .inr (oCi 18, [.int p2, .ref g, .ref g, v3])))) 3 (jset w r (q, .inr (oCi 18, [v0, v1, v2, v3]))) 0 0 0 [some (.ref q), some (.ref g), some (.int p2)] []
  refine j_aload_n C dX15_init_0 rfl rfl ?_
  refine j_aload_n C dX15_init_1 rfl rfl ?_
  refine j_putF2 C hnm in_X18 tyX18 tyX18_ok (by decide) (by decide) r (jset_at _ _ _) (hκ.cl rfl) 2 (by decide) q1174 rfl rfl (v := .ref g) rfl rfl rfl (by simp) dX15_init_2 ?_
  refine j_world (jset_jset w r _ _) ?_
  show J κ Γ _ _ (jset w r (q, .inr (oCi 18, [v0, v1, .ref g, v3]))) _ _ _ _ _
  refine j_aload_n C dX15_init_5 rfl rfl ?_
  refine j_aload_n C dX15_init_6 rfl rfl ?_
  refine j_iload_n C dX15_init_7 rfl rfl ?_
  refine j_callI hκ.1.1 C (As := [.ref g, .int p2]) (mt_i18_14 hκ _ _ _ _ _ _ _ _ _) q1169 q141 q1167 q1168 rfl (N := 2) ⟨by decide, by decide, by decide +kernel⟩ rfl dX15_init_8 ⟨Nat.le_of_ble_eq_true rfl, by decide, Nat.le_of_ble_eq_true rfl, Nat.le_of_ble_eq_true rfl, Nat.le_of_ble_eq_true rfl⟩ rfl (fun u w1 hp => ?_)
  obtain ⟨rfl, rfl⟩ := hp
  show J κ Γ _ _ (jset w r (q, .inr (oCi 18, [.int p2, .ref g, .ref g, v3]))) _ _ _ _ _
  exact j_vret C dX15_init_11 (Nat.zero_le _) (Nat.zero_le _) ⟨rfl, rfl⟩
theorem mt_i18_18 {κ : jK} (hκ : jX κ) (w : jW) (r q : Nat) (g : Nat) (p2 : Int32) (v0 v1 v2 v3 : Value) : jM κ yX18_init (ws_ yX18_init cX18_init 3 none) 4 0 0 [.ref q, .ref g, .int p2] (jset w r (q, .inr (oCi 18, [v0, v1, v2, v3]))) (fun u w' => u = none ∧ w' = jset w r (q, .inr (oCi 18, [.int p2, .ref g, .ref g, .ref g]))) := by
  refine jM.of (by decide) rfl (Nat.le_of_ble_eq_true rfl) fun Γ C hnm => ?_
  show J κ Γ (4, 0, 0, (fun u w' => u = none ∧ w' = jset w r (q, .inr (oCi 18, [.int p2, .ref g, .ref g, .ref g])))) 3 (jset w r (q, .inr (oCi 18, [v0, v1, v2, v3]))) 0 0 0 [some (.ref q), some (.ref g), some (.int p2)] []
  refine j_aload_n C dX18_init_0 rfl rfl ?_
  refine j_aload_n C dX18_init_1 rfl rfl ?_
  refine j_putF2 C hnm in_X18 tyX18 tyX18_ok (by decide) (by decide) r (jset_at _ _ _) (hκ.cl rfl) 3 (by decide) q1215 rfl rfl (v := .ref g) rfl rfl rfl (by simp) dX18_init_2 ?_
  refine j_world (jset_jset w r _ _) ?_
  show J κ Γ _ _ (jset w r (q, .inr (oCi 18, [v0, v1, v2, .ref g]))) _ _ _ _ _
  refine j_aload_n C dX18_init_5 rfl rfl ?_
  refine j_aload_n C dX18_init_6 rfl rfl ?_
  refine j_iload_n C dX18_init_7 rfl rfl ?_
  refine j_callI hκ.1.1 C (As := [.ref g, .int p2]) (mt_i18_15 hκ _ _ _ _ _ _ _ _ _) q1166 q142 q1214 q1165 rfl (N := 2) ⟨by decide, by decide, by decide +kernel⟩ rfl dX18_init_8 ⟨Nat.le_of_ble_eq_true rfl, by decide, Nat.le_of_ble_eq_true rfl, Nat.le_of_ble_eq_true rfl, Nat.le_of_ble_eq_true rfl⟩ rfl (fun u w1 hp => ?_)
  obtain ⟨rfl, rfl⟩ := hp
  show J κ Γ _ _ (jset w r (q, .inr (oCi 18, [.int p2, .ref g, .ref g, .ref g]))) _ _ _ _ _
  exact j_vret C dX18_init_11 (Nat.zero_le _) (Nat.zero_le _) ⟨rfl, rfl⟩
theorem mt_i19_14 {κ : jK} (hκ : jX κ) (w : jW) (r q : Nat) (g : Nat) (p2 : Int32) (v0 v1 v2 v3 v4 : Value) : jM κ yX14_init (ws_ yX14_init cX14_init 3 none) 2 0 0 [.ref q, .ref g, .int p2] (jset w r (q, .inr (oCi 19, [v0, v1, v2, v3, v4]))) (fun u w' => u = none ∧ w' = jset w r (q, .inr (oCi 19, [.int p2, .ref g, v2, v3, v4]))) := by
  refine jM.of (by decide) rfl (Nat.le_of_ble_eq_true rfl) fun Γ C hnm => ?_
  show J κ Γ (2, 0, 0, (fun u w' => u = none ∧ w' = jset w r (q, .inr (oCi 19, [.int p2, .ref g, v2, v3, v4])))) 3 (jset w r (q, .inr (oCi 19, [v0, v1, v2, v3, v4]))) 0 0 0 [some (.ref q), some (.ref g), some (.int p2)] []
  refine j_aload_n C dX14_init_0 rfl rfl ?_
  refine j_aload_n C dX14_init_1 rfl rfl ?_
  refine j_putF2 C hnm in_X19 tyX19 tyX19_ok (by decide) (by decide) r (jset_at _ _ _) (hκ.cl rfl) 1 (by decide) q1176 rfl rfl (v := .ref g) rfl rfl rfl (by simp) dX14_init_2 ?_
  refine j_world (jset_jset w r _ _) ?_
  show J κ Γ _ _ (jset w r (q, .inr (oCi 19, [v0, .ref g, v2, v3, v4]))) _ _ _ _ _
  refine j_aload_n C dX14_init_5 rfl rfl ?_
  refine j_callIN hκ C (As := []) (mt_iN13 hκ _ _) q1172 q140 q1170 q1171 rfl (N := 0) ⟨by decide, by decide, by decide +kernel⟩ rfl dX14_init_6 ⟨Nat.le_of_ble_eq_true rfl, by decide, Nat.le_of_ble_eq_true rfl, Nat.le_of_ble_eq_true rfl, Nat.le_of_ble_eq_true rfl⟩ rfl (fun u w1 hp => ?_)
  obtain ⟨rfl, rfl⟩ := hp
  show J κ Γ _ _ (jset w r (q, .inr (oCi 19, [v0, .ref g, v2, v3, v4]))) _ _ _ _ _
  refine j_aload_n C dX14_init_9 rfl rfl ?_
  refine j_iload_n C dX14_init_10 rfl rfl ?_
  refine j_putF2 C hnm in_X19 tyX19 tyX19_ok (by decide) (by decide) r (jset_at _ _ _) (hκ.cl rfl) 0 (by decide) q1175 rfl rfl (v := .int p2) rfl rfl rfl (by simp) dX14_init_11 ?_
  refine j_world (jset_jset w r _ _) ?_
  show J κ Γ _ _ (jset w r (q, .inr (oCi 19, [.int p2, .ref g, v2, v3, v4]))) _ _ _ _ _
  exact j_vret C dX14_init_14 (Nat.zero_le _) (Nat.zero_le _) ⟨rfl, rfl⟩
theorem mt_i19_16 {κ : jK} (hκ : jX κ) (w : jW) (r q : Nat) (g : Nat) (p2 : Int32) (v0 v1 v2 v3 v4 : Value) : jM κ yX16_init (ws_ yX16_init cX16_init 3 none) 3 0 0 [.ref q, .ref g, .int p2] (jset w r (q, .inr (oCi 19, [v0, v1, v2, v3, v4]))) (fun u w' => u = none ∧ w' = jset w r (q, .inr (oCi 19, [.int p2, .ref g, .ref g, v3, v4]))) := by
  refine jM.of (by decide) rfl (Nat.le_of_ble_eq_true rfl) fun Γ C hnm => ?_
  show J κ Γ (3, 0, 0, (fun u w' => u = none ∧ w' = jset w r (q, .inr (oCi 19, [.int p2, .ref g, .ref g, v3, v4])))) 3 (jset w r (q, .inr (oCi 19, [v0, v1, v2, v3, v4]))) 0 0 0 [some (.ref q), some (.ref g), some (.int p2)] []
  refine j_aload_n C dX16_init_0 rfl rfl ?_
  refine j_aload_n C dX16_init_1 rfl rfl ?_
  refine j_putF2 C hnm in_X19 tyX19 tyX19_ok (by decide) (by decide) r (jset_at _ _ _) (hκ.cl rfl) 2 (by decide) q1190 rfl rfl (v := .ref g) rfl rfl rfl (by simp) dX16_init_2 ?_
  refine j_world (jset_jset w r _ _) ?_
  show J κ Γ _ _ (jset w r (q, .inr (oCi 19, [v0, v1, .ref g, v3, v4]))) _ _ _ _ _
  refine j_aload_n C dX16_init_5 rfl rfl ?_
  refine j_aload_n C dX16_init_6 rfl rfl ?_
  refine j_iload_n C dX16_init_7 rfl rfl ?_
  refine j_callI hκ.1.1 C (As := [.ref g, .int p2]) (mt_i19_14 hκ _ _ _ _ _ _ _ _ _ _) q1169 q141 q1189 q1168 rfl (N := 2) ⟨by decide, by decide, by decide +kernel⟩ rfl dX16_init_8 ⟨Nat.le_of_ble_eq_true rfl, by decide, Nat.le_of_ble_eq_true rfl, Nat.le_of_ble_eq_true rfl, Nat.le_of_ble_eq_true rfl⟩ rfl (fun u w1 hp => ?_)
  obtain ⟨rfl, rfl⟩ := hp
  show J κ Γ _ _ (jset w r (q, .inr (oCi 19, [.int p2, .ref g, .ref g, v3, v4]))) _ _ _ _ _
  exact j_vret C dX16_init_11 (Nat.zero_le _) (Nat.zero_le _) ⟨rfl, rfl⟩
theorem mt_i19_17 {κ : jK} (hκ : jX κ) (w : jW) (r q : Nat) (g : Nat) (p2 : Int32) (v0 v1 v2 v3 v4 : Value) : jM κ yX17_init (ws_ yX17_init cX17_init 3 none) 4 0 0 [.ref q, .ref g, .int p2] (jset w r (q, .inr (oCi 19, [v0, v1, v2, v3, v4]))) (fun u w' => u = none ∧ w' = jset w r (q, .inr (oCi 19, [.int p2, .ref g, .ref g, .ref g, v4]))) := by
  refine jM.of (by decide) rfl (Nat.le_of_ble_eq_true rfl) fun Γ C hnm => ?_
  show J κ Γ (4, 0, 0, (fun u w' => u = none ∧ w' = jset w r (q, .inr (oCi 19, [.int p2, .ref g, .ref g, .ref g, v4])))) 3 (jset w r (q, .inr (oCi 19, [v0, v1, v2, v3, v4]))) 0 0 0 [some (.ref q), some (.ref g), some (.int p2)] []
  refine j_aload_n C dX17_init_0 rfl rfl ?_
  refine j_aload_n C dX17_init_1 rfl rfl ?_
  refine j_putF2 C hnm in_X19 tyX19 tyX19_ok (by decide) (by decide) r (jset_at _ _ _) (hκ.cl rfl) 3 (by decide) q1202 rfl rfl (v := .ref g) rfl rfl rfl (by simp) dX17_init_2 ?_
  refine j_world (jset_jset w r _ _) ?_
  show J κ Γ _ _ (jset w r (q, .inr (oCi 19, [v0, v1, v2, .ref g, v4]))) _ _ _ _ _
  refine j_aload_n C dX17_init_5 rfl rfl ?_
  refine j_aload_n C dX17_init_6 rfl rfl ?_
  refine j_iload_n C dX17_init_7 rfl rfl ?_
  refine j_callI hκ.1.1 C (As := [.ref g, .int p2]) (mt_i19_16 hκ _ _ _ _ _ _ _ _ _ _) q1188 q143 q1201 q1187 rfl (N := 2) ⟨by decide, by decide, by decide +kernel⟩ rfl dX17_init_8 ⟨Nat.le_of_ble_eq_true rfl, by decide, Nat.le_of_ble_eq_true rfl, Nat.le_of_ble_eq_true rfl, Nat.le_of_ble_eq_true rfl⟩ rfl (fun u w1 hp => ?_)
  obtain ⟨rfl, rfl⟩ := hp
  show J κ Γ _ _ (jset w r (q, .inr (oCi 19, [.int p2, .ref g, .ref g, .ref g, v4]))) _ _ _ _ _
  exact j_vret C dX17_init_11 (Nat.zero_le _) (Nat.zero_le _) ⟨rfl, rfl⟩
theorem mt_i19_19 {κ : jK} (hκ : jX κ) (w : jW) (r q : Nat) (g : Nat) (p2 : Int32) (v0 v1 v2 v3 v4 : Value) : jM κ yX19_init (ws_ yX19_init cX19_init 3 none) 5 0 0 [.ref q, .ref g, .int p2] (jset w r (q, .inr (oCi 19, [v0, v1, v2, v3, v4]))) (fun u w' => u = none ∧ w' = jset w r (q, .inr (oCi 19, [.int p2, .ref g, .ref g, .ref g, .ref g]))) := by
  refine jM.of (by decide) rfl (Nat.le_of_ble_eq_true rfl) fun Γ C hnm => ?_
  show J κ Γ (5, 0, 0, (fun u w' => u = none ∧ w' = jset w r (q, .inr (oCi 19, [.int p2, .ref g, .ref g, .ref g, .ref g])))) 3 (jset w r (q, .inr (oCi 19, [v0, v1, v2, v3, v4]))) 0 0 0 [some (.ref q), some (.ref g), some (.int p2)] []
  refine j_aload_n C dX19_init_0 rfl rfl ?_
  refine j_aload_n C dX19_init_1 rfl rfl ?_
  refine j_putF2 C hnm in_X19 tyX19 tyX19_ok (by decide) (by decide) r (jset_at _ _ _) (hκ.cl rfl) 4 (by decide) q1228 rfl rfl (v := .ref g) rfl rfl rfl (by simp) dX19_init_2 ?_
  refine j_world (jset_jset w r _ _) ?_
  show J κ Γ _ _ (jset w r (q, .inr (oCi 19, [v0, v1, v2, v3, .ref g]))) _ _ _ _ _
  refine j_aload_n C dX19_init_5 rfl rfl ?_
  refine j_aload_n C dX19_init_6 rfl rfl ?_
  refine j_iload_n C dX19_init_7 rfl rfl ?_
  refine j_callI hκ.1.1 C (As := [.ref g, .int p2]) (mt_i19_17 hκ _ _ _ _ _ _ _ _ _ _) q1200 q144 q1227 q1199 rfl (N := 2) ⟨by decide, by decide, by decide +kernel⟩ rfl dX19_init_8 ⟨Nat.le_of_ble_eq_true rfl, by decide, Nat.le_of_ble_eq_true rfl, Nat.le_of_ble_eq_true rfl, Nat.le_of_ble_eq_true rfl⟩ rfl (fun u w1 hp => ?_)
  obtain ⟨rfl, rfl⟩ := hp
  show J κ Γ _ _ (jset w r (q, .inr (oCi 19, [.int p2, .ref g, .ref g, .ref g, .ref g]))) _ _ _ _ _
  exact j_vret C dX19_init_11 (Nat.zero_le _) (Nat.zero_le _) ⟨rfl, rfl⟩
theorem mt_i20_14 {κ : jK} (hκ : jX κ) (w : jW) (r q : Nat) (g : Nat) (p2 : Int32) (v0 v1 v2 : Value) : jM κ yX14_init (ws_ yX14_init cX14_init 3 none) 2 0 0 [.ref q, .ref g, .int p2] (jset w r (q, .inr (oCi 20, [v0, v1, v2]))) (fun u w' => u = none ∧ w' = jset w r (q, .inr (oCi 20, [.int p2, .ref g, v2]))) := by
  refine jM.of (by decide) rfl (Nat.le_of_ble_eq_true rfl) fun Γ C hnm => ?_
  show J κ Γ (2, 0, 0, (fun u w' => u = none ∧ w' = jset w r (q, .inr (oCi 20, [.int p2, .ref g, v2])))) 3 (jset w r (q, .inr (oCi 20, [v0, v1, v2]))) 0 0 0 [some (.ref q), some (.ref g), some (.int p2)] []
  refine j_aload_n C dX14_init_0 rfl rfl ?_
  refine j_aload_n C dX14_init_1 rfl rfl ?_
  refine j_putF2 C hnm in_X20 tyX20 tyX20_ok (by decide) (by decide) r (jset_at _ _ _) (hκ.cl rfl) 1 (by decide) q1176 rfl rfl (v := .ref g) rfl rfl rfl (by simp) dX14_init_2 ?_
  refine j_world (jset_jset w r _ _) ?_
  show J κ Γ _ _ (jset w r (q, .inr (oCi 20, [v0, .ref g, v2]))) _ _ _ _ _
  refine j_aload_n C dX14_init_5 rfl rfl ?_
  refine j_callIN hκ C (As := []) (mt_iN13 hκ _ _) q1172 q140 q1170 q1171 rfl (N := 0) ⟨by decide, by decide, by decide +kernel⟩ rfl dX14_init_6 ⟨Nat.le_of_ble_eq_true rfl, by decide, Nat.le_of_ble_eq_true rfl, Nat.le_of_ble_eq_true rfl, Nat.le_of_ble_eq_true rfl⟩ rfl (fun u w1 hp => ?_)
  obtain ⟨rfl, rfl⟩ := hp
  show J κ Γ _ _ (jset w r (q, .inr (oCi 20, [v0, .ref g, v2]))) _ _ _ _ _
  refine j_aload_n C dX14_init_9 rfl rfl ?_
  refine j_iload_n C dX14_init_10 rfl rfl ?_
  refine j_putF2 C hnm in_X20 tyX20 tyX20_ok (by decide) (by decide) r (jset_at _ _ _) (hκ.cl rfl) 0 (by decide) q1175 rfl rfl (v := .int p2) rfl rfl rfl (by simp) dX14_init_11 ?_
  refine j_world (jset_jset w r _ _) ?_
  show J κ Γ _ _ (jset w r (q, .inr (oCi 20, [.int p2, .ref g, v2]))) _ _ _ _ _
  exact j_vret C dX14_init_14 (Nat.zero_le _) (Nat.zero_le _) ⟨rfl, rfl⟩
theorem mt_i20_20 {κ : jK} (hκ : jX κ) (w : jW) (r q : Nat) (g : Nat) (p2 : Int32) (v0 v1 v2 : Value) : jM κ yX20_init (ws_ yX20_init cX20_init 3 none) 3 0 0 [.ref q, .ref g, .int p2] (jset w r (q, .inr (oCi 20, [v0, v1, v2]))) (fun u w' => u = none ∧ w' = jset w r (q, .inr (oCi 20, [.int p2, .ref g, .ref g]))) := by
  refine jM.of (by decide) rfl (Nat.le_of_ble_eq_true rfl) fun Γ C hnm => ?_
  show J κ Γ (3, 0, 0, (fun u w' => u = none ∧ w' = jset w r (q, .inr (oCi 20, [.int p2, .ref g, .ref g])))) 3 (jset w r (q, .inr (oCi 20, [v0, v1, v2]))) 0 0 0 [some (.ref q), some (.ref g), some (.int p2)] []
  refine j_aload_n C dX20_init_0 rfl rfl ?_
  refine j_aload_n C dX20_init_1 rfl rfl ?_
  refine j_putF2 C hnm in_X20 tyX20 tyX20_ok (by decide) (by decide) r (jset_at _ _ _) (hκ.cl rfl) 2 (by decide) q1242 rfl rfl (v := .ref g) rfl rfl rfl (by simp) dX20_init_2 ?_
  refine j_world (jset_jset w r _ _) ?_
  show J κ Γ _ _ (jset w r (q, .inr (oCi 20, [v0, v1, .ref g]))) _ _ _ _ _
  refine j_aload_n C dX20_init_5 rfl rfl ?_
  refine j_aload_n C dX20_init_6 rfl rfl ?_
  refine j_iload_n C dX20_init_7 rfl rfl ?_
  refine j_callI hκ.1.1 C (As := [.ref g, .int p2]) (mt_i20_14 hκ _ _ _ _ _ _ _ _) q1169 q141 q1241 q1168 rfl (N := 2) ⟨by decide, by decide, by decide +kernel⟩ rfl dX20_init_8 ⟨Nat.le_of_ble_eq_true rfl, by decide, Nat.le_of_ble_eq_true rfl, Nat.le_of_ble_eq_true rfl, Nat.le_of_ble_eq_true rfl⟩ rfl (fun u w1 hp => ?_)
  obtain ⟨rfl, rfl⟩ := hp
  show J κ Γ _ _ (jset w r (q, .inr (oCi 20, [.int p2, .ref g, .ref g]))) _ _ _ _ _
  exact j_vret C dX20_init_11 (Nat.zero_le _) (Nat.zero_le _) ⟨rfl, rfl⟩
theorem mt_i21_14 {κ : jK} (hκ : jX κ) (w : jW) (r q : Nat) (g : Nat) (p2 : Int32) (v0 v1 v2 v3 v4 : Value) : jM κ yX14_init (ws_ yX14_init cX14_init 3 none) 2 0 0 [.ref q, .ref g, .int p2] (jset w r (q, .inr (oCi 21, [v0, v1, v2, v3, v4]))) (fun u w' => u = none ∧ w' = jset w r (q, .inr (oCi 21, [.int p2, .ref g, v2, v3, v4]))) := by
  refine jM.of (by decide) rfl (Nat.le_of_ble_eq_true rfl) fun Γ C hnm => ?_
  show J κ Γ (2, 0, 0, (fun u w' => u = none ∧ w' = jset w r (q, .inr (oCi 21, [.int p2, .ref g, v2, v3, v4])))) 3 (jset w r (q, .inr (oCi 21, [v0, v1, v2, v3, v4]))) 0 0 0 [some (.ref q), some (.ref g), some (.int p2)] []
  refine j_aload_n C dX14_init_0 rfl rfl ?_
  refine j_aload_n C dX14_init_1 rfl rfl ?_
  refine j_putF2 C hnm in_X21 tyX21 tyX21_ok (by decide) (by decide) r (jset_at _ _ _) (hκ.cl rfl) 1 (by decide) q1176 rfl rfl (v := .ref g) rfl rfl rfl (by simp) dX14_init_2 ?_
  refine j_world (jset_jset w r _ _) ?_
  show J κ Γ _ _ (jset w r (q, .inr (oCi 21, [v0, .ref g, v2, v3, v4]))) _ _ _ _ _
  refine j_aload_n C dX14_init_5 rfl rfl ?_
  refine j_callIN hκ C (As := []) (mt_iN13 hκ _ _) q1172 q140 q1170 q1171 rfl (N := 0) ⟨by decide, by decide, by decide +kernel⟩ rfl dX14_init_6 ⟨Nat.le_of_ble_eq_true rfl, by decide, Nat.le_of_ble_eq_true rfl, Nat.le_of_ble_eq_true rfl, Nat.le_of_ble_eq_true rfl⟩ rfl (fun u w1 hp => ?_)
  obtain ⟨rfl, rfl⟩ := hp
  show J κ Γ _ _ (jset w r (q, .inr (oCi 21, [v0, .ref g, v2, v3, v4]))) _ _ _ _ _
  refine j_aload_n C dX14_init_9 rfl rfl ?_
  refine j_iload_n C dX14_init_10 rfl rfl ?_
  refine j_putF2 C hnm in_X21 tyX21 tyX21_ok (by decide) (by decide) r (jset_at _ _ _) (hκ.cl rfl) 0 (by decide) q1175 rfl rfl (v := .int p2) rfl rfl rfl (by simp) dX14_init_11 ?_
  refine j_world (jset_jset w r _ _) ?_
  show J κ Γ _ _ (jset w r (q, .inr (oCi 21, [.int p2, .ref g, v2, v3, v4]))) _ _ _ _ _
  exact j_vret C dX14_init_14 (Nat.zero_le _) (Nat.zero_le _) ⟨rfl, rfl⟩
theorem mt_i21_15 {κ : jK} (hκ : jX κ) (w : jW) (r q : Nat) (g : Nat) (p2 : Int32) (v0 v1 v2 v3 v4 : Value) : jM κ yX15_init (ws_ yX15_init cX15_init 3 none) 3 0 0 [.ref q, .ref g, .int p2] (jset w r (q, .inr (oCi 21, [v0, v1, v2, v3, v4]))) (fun u w' => u = none ∧ w' = jset w r (q, .inr (oCi 21, [.int p2, .ref g, .ref g, v3, v4]))) := by
  refine jM.of (by decide) rfl (Nat.le_of_ble_eq_true rfl) fun Γ C hnm => ?_
  show J κ Γ (3, 0, 0, (fun u w' => u = none ∧ w' = jset w r (q, .inr (oCi 21, [.int p2, .ref g, .ref g, v3, v4])))) 3 (jset w r (q, .inr (oCi 21, [v0, v1, v2, v3, v4]))) 0 0 0 [some (.ref q), some (.ref g), some (.int p2)] []
  refine j_aload_n C dX15_init_0 rfl rfl ?_
  refine j_aload_n C dX15_init_1 rfl rfl ?_
  refine j_putF2 C hnm in_X21 tyX21 tyX21_ok (by decide) (by decide) r (jset_at _ _ _) (hκ.cl rfl) 2 (by decide) q1174 rfl rfl (v := .ref g) rfl rfl rfl (by simp) dX15_init_2 ?_
  refine j_world (jset_jset w r _ _) ?_
  show J κ Γ _ _ (jset w r (q, .inr (oCi 21, [v0, v1, .ref g, v3, v4]))) _ _ _ _ _
  refine j_aload_n C dX15_init_5 rfl rfl ?_
  refine j_aload_n C dX15_init_6 rfl rfl ?_
  refine j_iload_n C dX15_init_7 rfl rfl ?_
  refine j_callI hκ.1.1 C (As := [.ref g, .int p2]) (mt_i21_14 hκ _ _ _ _ _ _ _ _ _ _) q1169 q141 q1167 q1168 rfl (N := 2) ⟨by decide, by decide, by decide +kernel⟩ rfl dX15_init_8 ⟨Nat.le_of_ble_eq_true rfl, by decide, Nat.le_of_ble_eq_true rfl, Nat.le_of_ble_eq_true rfl, Nat.le_of_ble_eq_true rfl⟩ rfl (fun u w1 hp => ?_)
  obtain ⟨rfl, rfl⟩ := hp
  show J κ Γ _ _ (jset w r (q, .inr (oCi 21, [.int p2, .ref g, .ref g, v3, v4]))) _ _ _ _ _
  exact j_vret C dX15_init_11 (Nat.zero_le _) (Nat.zero_le _) ⟨rfl, rfl⟩
theorem mt_i21_18 {κ : jK} (hκ : jX κ) (w : jW) (r q : Nat) (g : Nat) (p2 : Int32) (v0 v1 v2 v3 v4 : Value) : jM κ yX18_init (ws_ yX18_init cX18_init 3 none) 4 0 0 [.ref q, .ref g, .int p2] (jset w r (q, .inr (oCi 21, [v0, v1, v2, v3, v4]))) (fun u w' => u = none ∧ w' = jset w r (q, .inr (oCi 21, [.int p2, .ref g, .ref g, .ref g, v4]))) := by
  refine jM.of (by decide) rfl (Nat.le_of_ble_eq_true rfl) fun Γ C hnm => ?_
  show J κ Γ (4, 0, 0, (fun u w' => u = none ∧ w' = jset w r (q, .inr (oCi 21, [.int p2, .ref g, .ref g, .ref g, v4])))) 3 (jset w r (q, .inr (oCi 21, [v0, v1, v2, v3, v4]))) 0 0 0 [some (.ref q), some (.ref g), some (.int p2)] []
  refine j_aload_n C dX18_init_0 rfl rfl ?_
  refine j_aload_n C dX18_init_1 rfl rfl ?_
  refine j_putF2 C hnm in_X21 tyX21 tyX21_ok (by decide) (by decide) r (jset_at _ _ _) (hκ.cl rfl) 3 (by decide) q1215 rfl rfl (v := .ref g) rfl rfl rfl (by simp) dX18_init_2 ?_
  refine j_world (jset_jset w r _ _) ?_
  show J κ Γ _ _ (jset w r (q, .inr (oCi 21, [v0, v1, v2, .ref g, v4]))) _ _ _ _ _
  refine j_aload_n C dX18_init_5 rfl rfl ?_
  refine j_aload_n C dX18_init_6 rfl rfl ?_
  refine j_iload_n C dX18_init_7 rfl rfl ?_
  refine j_callI hκ.1.1 C (As := [.ref g, .int p2]) (mt_i21_15 hκ _ _ _ _ _ _ _ _ _ _) q1166 q142 q1214 q1165 rfl (N := 2) ⟨by decide, by decide, by decide +kernel⟩ rfl dX18_init_8 ⟨Nat.le_of_ble_eq_true rfl, by decide, Nat.le_of_ble_eq_true rfl, Nat.le_of_ble_eq_true rfl, Nat.le_of_ble_eq_true rfl⟩ rfl (fun u w1 hp => ?_)
  obtain ⟨rfl, rfl⟩ := hp
  show J κ Γ _ _ (jset w r (q, .inr (oCi 21, [.int p2, .ref g, .ref g, .ref g, v4]))) _ _ _ _ _
  exact j_vret C dX18_init_11 (Nat.zero_le _) (Nat.zero_le _) ⟨rfl, rfl⟩
theorem mt_i21_21 {κ : jK} (hκ : jX κ) (w : jW) (r q : Nat) (g : Nat) (p2 : Int32) (v0 v1 v2 v3 v4 : Value) : jM κ yX21_init (ws_ yX21_init cX21_init 3 none) 5 0 0 [.ref q, .ref g, .int p2] (jset w r (q, .inr (oCi 21, [v0, v1, v2, v3, v4]))) (fun u w' => u = none ∧ w' = jset w r (q, .inr (oCi 21, [.int p2, .ref g, .ref g, .ref g, .ref g]))) := by
  refine jM.of (by decide) rfl (Nat.le_of_ble_eq_true rfl) fun Γ C hnm => ?_
  show J κ Γ (5, 0, 0, (fun u w' => u = none ∧ w' = jset w r (q, .inr (oCi 21, [.int p2, .ref g, .ref g, .ref g, .ref g])))) 3 (jset w r (q, .inr (oCi 21, [v0, v1, v2, v3, v4]))) 0 0 0 [some (.ref q), some (.ref g), some (.int p2)] []
  refine j_aload_n C dX21_init_0 rfl rfl ?_
  refine j_aload_n C dX21_init_1 rfl rfl ?_
  refine j_putF2 C hnm in_X21 tyX21 tyX21_ok (by decide) (by decide) r (jset_at _ _ _) (hκ.cl rfl) 4 (by decide) q1254 rfl rfl (v := .ref g) rfl rfl rfl (by simp) dX21_init_2 ?_
  refine j_world (jset_jset w r _ _) ?_
  show J κ Γ _ _ (jset w r (q, .inr (oCi 21, [v0, v1, v2, v3, .ref g]))) _ _ _ _ _
  refine j_aload_n C dX21_init_5 rfl rfl ?_
  refine j_aload_n C dX21_init_6 rfl rfl ?_
  refine j_iload_n C dX21_init_7 rfl rfl ?_
  refine j_callI hκ.1.1 C (As := [.ref g, .int p2]) (mt_i21_18 hκ _ _ _ _ _ _ _ _ _ _) q1213 q145 q1253 q1212 rfl (N := 2) ⟨by decide, by decide, by decide +kernel⟩ rfl dX21_init_8 ⟨Nat.le_of_ble_eq_true rfl, by decide, Nat.le_of_ble_eq_true rfl, Nat.le_of_ble_eq_true rfl, Nat.le_of_ble_eq_true rfl⟩ rfl (fun u w1 hp => ?_)
  obtain ⟨rfl, rfl⟩ := hp
  show J κ Γ _ _ (jset w r (q, .inr (oCi 21, [.int p2, .ref g, .ref g, .ref g, .ref g]))) _ _ _ _ _
  exact j_vret C dX21_init_11 (Nat.zero_le _) (Nat.zero_le _) ⟨rfl, rfl⟩
theorem mt_iN22 {κ : jK} (hκ : jX κ) (w : jW) (q : Nat) : jM κ yX22_init (ws_ yX22_init cX22_init 1 none) 2 0 0 [.ref q] w (fun u w' => u = none ∧ w' = w) := by
  refine jM.of (by decide) rfl (Nat.le_of_ble_eq_true rfl) fun Γ C _ => ?_
  show J κ Γ (2, 0, 0, (fun u w' => u = none ∧ w' = w)) 1 w 0 0 0 [some (.ref q)] []
  refine j_aload_n C dX22_init_0 rfl rfl ?_
  refine j_callIN hκ C (As := []) (mt_iN13 hκ _ _) q1172 q140 q1450 q1171 rfl (N := 0) ⟨by decide, by decide, by decide +kernel⟩ rfl dX22_init_1 ⟨Nat.le_of_ble_eq_true rfl, by decide, Nat.le_of_ble_eq_true rfl, Nat.le_of_ble_eq_true rfl, Nat.le_of_ble_eq_true rfl⟩ rfl (fun u w1 hp => ?_)
  obtain ⟨rfl, rfl⟩ := hp
  exact j_vret C dX22_init_4 (Nat.zero_le _) (Nat.zero_le _) ⟨rfl, rfl⟩
