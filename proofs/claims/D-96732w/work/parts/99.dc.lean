/-! PLAIN LAW: fit, the reference's part, both. Own text. -/
set_option maxRecDepth 100000
theorem RSo.k {M S S' : MS} {m : Nat} {o : List Nat} (h : RSo M S m o) (hm : sm M S') (e44 : S'.1 44 = S.1 44) (e45 : S'.2.1 45 = S.2.1 45) : RSo M S' m o := ⟨hm, e44.trans h.2.1, fun j x e => by rw [e45]; exact h.2.2 j x e⟩
theorem cpm_l (N : Nat) {M : MS} {m : Nat} (hm0 : mi M 0 = m) (hm9 : m ≤ 9) {o : List Nat} (ho : o.length = m) (l1 l2 l4 : Int32) (k72 : MS → Int32 → Int32 → Option (Int32 × MS)) : ∀ (n i : Nat) (S : MS), i ≤ m → m - i < n → sm M S → Ar S o → (∀ (j x : Nat), j < i → o[j]? = some x → ma S 53 j = x) → ∃ S', m_fit_b136 N l1 l2 l4 k72 n S (iz i) = (b2 (m_nextOrder N S' (iz m)) fun v2 T3 => k72 T3 l4 (b2i v2)) ∧ sm M S' ∧ Ar S' o ∧ b53 S' o := by
  intro n
  induction n with
  | zero => intro i S a b; omega
  | succ n ih =>
    intro i S a b hm ha hb
    have s0 : S.1 0 = iz m := by rw [hm.2.1 0 rfl, mi_eq, hm0]
    rw [m_fit_b136, s0]
    by_cases c : m ≤ i
    · exact ⟨S, iteTE ((iz_le (by omega)).mpr (by omega)) rfl, hm, ha, fun j x e => hb j x (by have := (List.getElem?_eq_some_iff.mp e).1; omega) e⟩
    have ni : iz i + 1 = iz ((i + 1 : Nat) : Int) := by rw [show (1 : Int32) = iz 1 from rfl, iz_add]; rfl
    have ei := List.getElem?_eq_getElem (l := o) (i := i) (by omega)
    have e52 := ha i _ ei
    have r52 := ma_R S 52 i
    obtain ⟨S', g1, g2⟩ := ih (i + 1) (sA S 53 i (iz ((o[i]'(by omega) : Nat) : Int))) (by omega) (by omega) (hm.setA rfl _ _) (fun j x e => by
      rw [ma_sA _ _ _ (by omega), if_neg (by decide)]; exact ha j x e) (fun j x hj e => by
      rw [ma_sA _ _ _ (by omega), if_pos rfl]
      by_cases d : j = i
      · subst d
        rw [ei] at e
        rw [if_pos rfl, ← Option.some.inj e]
      · rw [if_neg d]; exact hb j x (by omega) e)
    refine ⟨S', iteFE (by rw [iz_le (by omega)]; omega) (chkE rfl (by omega) (chkE rfl (by omega) ?_)), g2⟩
    rw [nmE, nmE, ni, iz_clampN (by omega), ma_eq S 52, e52]
    exact g1
theorem lay_fit_l (N : Nat) {M : MS} {s n m : Nat} (hm0 : mi M 0 = m) (hm9 : m ≤ 9) {pp : List Nat → Bool} (hpp : ∀ o S, okW M m o → RSo M S m o → ∃ V, m_isPaper N S (iz s) = some (pp o, V) ∧ sm M V ∧ (∀ r, r ≠ 47 → r ≠ 48 → V.2.1 r = S.2.1 r) ∧ ∀ r, r ≠ 46 → V.1 r = S.1 r) (hN : 20 ≤ N) {o : List Nat} (ho : okW M m o) (l2 : Int32) (c : Nat × List Nat) (hc : c.1 ≤ 100000) (k72 : MS → Int32 → Int32 → Option (Int32 × MS)) : ∀ (fu i : Nat) (S : MS), i ≤ m → m - i < fu → sm M S → S.1 44 = iz m → Ar S o → (1 ≤ c.1 → b53 S c.2) → (∀ (j x : Nat), j < i → o[j]? = some x → S.2.1 45 j = iz x) → ∃ S', m_fit_b88 N (iz s) l2 (iz c.1) k72 fu S (iz i) = (b2 (m_nextOrder N S' (iz m)) fun v2 T3 => k72 T3 (iz (if pp o then (c.1 + 1, if c.1 = 0 then o else c.2) else c).1) (b2i v2)) ∧ sm M S' ∧ Ar S' o ∧ (1 ≤ (if pp o then (c.1 + 1, if c.1 = 0 then o else c.2) else c).1 → b53 S' (if pp o then (c.1 + 1, if c.1 = 0 then o else c.2) else c).2) := by
  intro fu
  obtain ⟨o1, o2⟩ := id ho
  induction fu with
  | zero => intro i S a b; omega
  | succ fu ih =>
    intro i S a b hm h44 ha hb h45
    have s0 : S.1 0 = iz m := by rw [hm.2.1 0 rfl, mi_eq, hm0]
    rw [m_fit_b88, s0]
    by_cases d : m ≤ i
    · have le : iz m ≤ iz i := (iz_le (by omega)).mpr (by omega)
      obtain ⟨V, v1, v2, v3, v4⟩ := hpp o S ho ⟨hm, h44, fun j x e => h45 j x (by have := (List.getElem?_eq_some_iff.mp e).1; omega) e⟩
      have V0 : V.1 0 = iz m := by rw [v2.2.1 0 rfl, mi_eq, hm0]
      have Va : Ar V o := fun j x e => by rw [ma_cg (v3 52 (by decide) (by decide))]; exact ha j x e
      have Vb : 1 ≤ c.1 → b53 V c.2 := fun z j x e => by rw [ma_cg (v3 53 (by decide) (by decide))]; exact hb z j x e
      have n1 : iz c.1 + 1 = iz ((c.1 + 1 : Nat) : Int) := by rw [show (1 : Int32) = iz 1 from rfl, iz_add]; rfl
      by_cases cp : pp o = true
      · rw [cp] at v1
        rw [if_pos cp]
        by_cases cz : c.1 = 0
        · obtain ⟨S', g1, g2, g3, g4⟩ := cpm_l N hm0 hm9 o1 (iz s) l2 (iz ((c.1 + 1 : Nat) : Int)) k72 N 0 V (by omega) (by omega) v2 Va (fun j x hj _ => absurd hj (by omega))
          refine ⟨S', iteTE le (b2E v1 (iteFE b2iT ?_)), g2, g3, fun _ => ?_⟩
          · rw [nmE, n1]
            exact iteTE (by rw [cz]; rfl) g1
          · show b53 S' (if c.1 = 0 then o else c.2)
            rw [if_pos cz]; exact g4
        · refine ⟨V, iteTE le (b2E v1 (iteFE b2iT ?_)), v2, Va, fun _ => ?_⟩
          · rw [nmE, n1]
            refine iteFE (by rw [show (0 : Int32) = iz 0 from rfl, iz_eq (by omega)]; omega) ?_
            rw [V0]
          · show b53 V (if c.1 = 0 then o else c.2)
            rw [if_neg cz]; exact Vb (by omega)
      · rw [show pp o = false by simpa using cp] at v1
        rw [if_neg cp]
        refine ⟨V, iteTE le (b2E v1 (iteTE rfl ?_)), v2, Va, Vb⟩
        rw [V0]
    · have ni : iz i + 1 = iz ((i + 1 : Nat) : Int) := by rw [show (1 : Int32) = iz 1 from rfl, iz_add]; rfl
      have ei := List.getElem?_eq_getElem (l := o) (i := i) (by omega)
      have e52 := ha i _ ei
      obtain ⟨S', g1, g2⟩ := ih (i + 1) (sA S 45 i (iz ((o[i]'(by omega) : Nat) : Int))) (by omega) (by omega) (hm.setA rfl _ _) h44 (fun j x e => by
        have r52 := ma_R S 52 i
        rw [ma_sA _ _ _ (by rw [← e52]; exact r52), if_neg (by decide)]; exact ha j x e) (fun z j x e => by
        have r52 := ma_R S 52 i
        rw [ma_sA _ _ _ (by rw [← e52]; exact r52), if_neg (by decide)]; exact hb z j x e) (fun j x hj e => by
        rw [sA21, if_pos rfl]
        by_cases d : j = i
        · subst d
          rw [ei] at e
          rw [if_pos rfl, ← Option.some.inj e]
        · rw [if_neg d]; exact h45 j x (by omega) e)
      refine ⟨S', iteFE (by rw [iz_le (by omega)]; omega) (chkE rfl (by omega) (chkE rfl (by omega) ?_)), g2⟩
      rw [nmE, nmE, ni, iz_clampN (by omega), ma_eq S 52, e52]
      exact g1
theorem fits_l {M : MS} {N s n m : Nat} (hN : 20 ≤ N) (hm0 : mi M 0 = m) (hm9 : m ≤ 9) {pp : List Nat → Bool} (hpp : ∀ o S, okW M m o → RSo M S m o → ∃ V, m_isPaper N S (iz s) = some (pp o, V) ∧ sm M V ∧ (∀ r, r ≠ 47 → r ≠ 48 → V.2.1 r = S.2.1 r) ∧ ∀ r, r ≠ 46 → V.1 r = S.1 r) (l2 : Int32) {l : List Nat} (hl : up l) : ∀ (t : List (List Nat)) (fu : Nat) (o : List Nat) (S : MS) (c : Nat × List Nat), t.length + 1 < fu → Pth o t l.reverse → (∀ q, q ∈ o :: t → okW M m q) → c.1 + (o :: t).length ≤ 100000 → sm M S → Ar S o → (1 ≤ c.1 → b53 S c.2) → ∃ S' fu', m_fit_b72 N (iz s) l2 fu S (iz c.1) 1 = m_fit_b72 N (iz s) l2 (fu' + 1) S' (iz (cnf pp c (o :: t)).1) 0 ∧ sm M S' ∧ (1 ≤ (cnf pp c (o :: t)).1 → b53 S' (cnf pp c (o :: t)).2) := by
  intro t
  have st : ∀ (fu : Nat) (o : List Nat) (S : MS) (c : Nat × List Nat), okW M m o → c.1 ≤ 100000 → sm M S → Ar S o → (1 ≤ c.1 → b53 S c.2) → ∃ S', m_fit_b72 N (iz s) l2 (fu + 1) S (iz c.1) 1 = (b2 (m_nextOrder N S' (iz m)) fun v2 T3 => m_fit_b72 N (iz s) l2 fu T3 (iz (if pp o then (c.1 + 1, if c.1 = 0 then o else c.2) else c).1) (b2i v2)) ∧ sm M S' ∧ Ar S' o ∧ (1 ≤ (if pp o then (c.1 + 1, if c.1 = 0 then o else c.2) else c).1 → b53 S' (if pp o then (c.1 + 1, if c.1 = 0 then o else c.2) else c).2) := by
    intro fu o S c ho hc hm ha hb
    have s0 : S.1 0 = iz m := by rw [hm.2.1 0 rfl, mi_eq, hm0]
    obtain ⟨S', g1, g2⟩ := lay_fit_l (n := n) N hm0 hm9 hpp hN ho l2 c hc (fun t y4 y5 => m_fit_b72 N (iz s) l2 fu t y4 y5) N 0 (sI S 44 (iz m)) (by omega) (by omega) (hm.setI rfl _) rfl ha hb (fun j x hj _ => absurd hj (by omega))
    refine ⟨S', ?_, g2⟩
    rw [m_fit_b72]
    refine iteFE (by decide) ?_
    rw [nmE, s0]
    exact g1
  induction t with
  | nil =>
    intro fu o S c hf hp ho hc hm ha hb
    obtain ⟨fu, rfl⟩ : ∃ f, fu = f + 2 := ⟨fu - 2, by simp at hf; omega⟩
    have o1 := ho o (List.mem_cons_self ..)
    have hp' : o = l.reverse := hp
    obtain ⟨S', g1, g2, g3, g4⟩ := st (fu + 1) o S c o1 (by omega) hm ha hb
    refine ⟨S', fu, g1.trans ?_, g2, g4⟩
    have nx := next_none hN hl hp' (by have := o1.1; omega) g3
    rw [o1.1] at nx
    exact b2E nx rfl
  | cons o' t ih =>
    intro fu o S c hf hp ho hc hm ha hb
    obtain ⟨fu, rfl⟩ : ∃ f, fu = f + 1 := ⟨fu - 1, by omega⟩
    have o1 := ho o (List.mem_cons_self ..)
    obtain ⟨S1, g1, g2, g3, g4⟩ := st fu o S c o1 (by omega) hm ha hb
    obtain ⟨S2, n1, n2, n3, n4⟩ := next_some hN hp.1 (by have := o1.1; omega) g3
    rw [o1.1] at n1
    have c1 : (if pp o then (c.1 + 1, if c.1 = 0 then o else c.2) else c).1 ≤ c.1 + 1 := by
      split
      · exact Nat.le_refl _
      · omega
    obtain ⟨S', fu', k1, k2⟩ := ih fu o' S2 (if pp o then (c.1 + 1, if c.1 = 0 then o else c.2) else c) (by simp at hf; omega) hp.2 (fun q hq => ho q (List.mem_cons_of_mem _ hq)) (by simp at hc ⊢; omega) (g2.tr n2.sm) n3 (fun z => n2.b53 (g4 z))
    exact ⟨S', fu', (g1.trans (b2E n1 rfl)).trans k1, k2⟩
theorem idn_l (N : Nat) {M : MS} {m : Nat} (hm0 : mi M 0 = m) (hm9 : m ≤ 9) (l1 l2 : Int32) : ∀ (fu p : Nat) (S : MS), p ≤ m → m - p < fu → sm M S → Ar S (fre 0 p) → ∃ S', m_fit_b42 N l1 l2 fu S (iz p) = m_fit_b72 N l1 l2 N S' (iz 0) 1 ∧ sm M S' ∧ Ar S' (fre 0 m) := by
  intro fu
  induction fu with
  | zero => intro p S a b; omega
  | succ fu ih =>
    intro p S a b hm ha
    rw [m_fit_b42, hm.2.1 0 rfl, mi_eq M 0, hm0]
    by_cases c : m ≤ p
    · obtain rfl : p = m := by omega
      exact ⟨S, iteTE (Int32.le_refl _) rfl, hm, ha⟩
    have cc : ¬ iz m ≤ iz p := by rw [iz_le (by omega)]; omega
    have np : iz p + 1 = iz ((p + 1 : Nat) : Int) := by rw [show (1 : Int32) = iz 1 from rfl, iz_add]; rfl
    have sn : ∀ p, fre 0 (p + 1) = fre 0 p ++ [p] := fun p => by
      show elF _ 0 (p + 1) = _
      rw [elF_snoc, Nat.zero_add, Nat.zero_testBit]; rfl
    have len : ∀ p, (fre 0 p).length = p := fun p => by
      induction p with
      | zero => rfl
      | succ p ihp => rw [sn, List.length_append, ihp]; rfl
    obtain ⟨S', g1, g2⟩ := ih (p + 1) (sA S 52 p (iz p)) (by omega) (by omega) (hm.setA rfl _ _) (fun j x e => by
      rw [ma_sA _ _ _ (by omega), if_pos rfl]
      rw [sn] at e
      by_cases d : j = p
      · subst d
        rw [List.getElem?_append_right (by rw [len]; exact Nat.le_refl _), len, Nat.sub_self] at e
        rw [if_pos rfl, ← Option.some.inj e]
      · have := (List.getElem?_eq_some_iff.mp e).1
        rw [List.length_append, len] at this
        have l1 : [p].length = 1 := rfl
        rw [List.getElem?_append_left (by rw [len]; omega)] at e
        rw [if_neg d]
        exact ha j x e)
    refine ⟨S', iteFE cc (chkE rfl (by omega) ?_), g2⟩
    rw [nmE, nmE, np, iz_clampN (by omega)]
    exact g1
theorem fre_len : ∀ m, (fre 0 m).length = m := by
  intro m
  induction m with
  | zero => rfl
  | succ m ih =>
    have : fre 0 (m + 1) = fre 0 m ++ [m] := by
      show elF _ 0 (m + 1) = _
      rw [elF_snoc, Nat.zero_add, Nat.zero_testBit]; rfl
    rw [this, List.length_append, ih]; rfl
theorem law_fit {X : XS} {M : MS} (h : R X M) {N : Nat} (hN : 20000 ≤ N) (p w : Int32) : same (x_fit N X p w) (m_fit N M p w) := by
  obtain ⟨z, hz, rfl⟩ := izE p
  obtain ⟨k, hk, rfl⟩ := izE w
  have n9 := h.1.1.2
  obtain ⟨m, hm0⟩ : ∃ m : Nat, mi M 0 = m := ⟨(mi M 0).toNat, by omega⟩
  unfold x_fit m_fit
  by_cases c : ¬ (0 ≤ z ∧ z ≤ 5)
  · exact ⟨_, _, _, bindE (shelfF hz c) (iteTE rfl rfl), bindE (shelfF hz c) (iteTE rfl rfl), h⟩
  replace c := Decidable.not_not.mp c
  have lek : ((-1 : Int32) ≤ iz k) ↔ -1 ≤ k := by rw [show (-1 : Int32) = iz (-1) from rfl, iz_le (by omega)]
  by_cases ck : ¬ -1 ≤ k
  · exact ⟨_, _, _, bindE (shelfT c) (iteFE b2iT (iteFE (fun y => ck (lek.mp y)) rfl)), bindE (shelfT c) (iteFE b2iT (iteFE (fun y => ck (lek.mp y)) rfl)), h⟩
  replace ck := Decidable.not_not.mp ck
  obtain ⟨s, rfl⟩ : ∃ s : Nat, z = s := ⟨z.toNat, by omega⟩
  have r41 := ma_R M 41 s
  have lit : ∀ k : Int, -100 ≤ k ∧ k ≤ 100 → ((M.2.1 41 (iz s).toNatClampNeg = iz k) ↔ ma M 41 s = k) := fun k hk => by rw [iz_clampN (by omega), ma_eq M 41, iz_eq (by omega)]
  have nrow : ∀ r : Int32, ((ma M 41 s = -1 ∧ r = iz (-11)) ∨ (ma M 41 s ≠ -1 ∧ ma M 41 s ≠ 1 ∧ r = iz (-12)) ∨ (ma M 41 s = 1 ∧ r = 0)) → m_noRow M (iz s) 1 = some r := fun r hr => by
    unfold m_noRow
    rcases hr with ⟨e1, rfl⟩ | ⟨e1, e2, rfl⟩ | ⟨e1, rfl⟩
    · exact chkE rfl (by omega) (iteTE ((lit (-1) (by omega)).mpr e1) rfl)
    · exact chkE rfl (by omega) (iteFE (fun q => e1 ((lit (-1) (by omega)).mp q)) (chkE rfl (by omega) (iteFE (fun q => e2 ((lit 1 (by omega)).mp q)) rfl)))
    · exact chkE rfl (by omega) (iteFE (fun q => absurd ((lit (-1) (by omega)).mp (by rw [q]; rfl)) (by omega)) (chkE rfl (by omega) (iteTE ((lit 1 (by omega)).mpr e1) rfl)))
  rcases lay_paper h (N := N) (by omega) (s := s) (by omega) with ⟨q1, q2⟩ | ⟨q1, q2, q3⟩ | ⟨q1, T, n, l1, l2, l3, l4, l5, l6, l7, l8⟩
  · have ne : ¬ (0 : Int32) ≤ iz (-11) := by decide
    exact ⟨_, _, _, bindE (shelfT c) (iteFE b2iT (iteTE (lek.mpr ck) (b2E q2 (iteFE ne rfl)))), bindE (shelfT c) (iteFE b2iT (iteTE (lek.mpr ck) (bindE (nrow _ (Or.inl ⟨q1, rfl⟩)) (iteFE ne rfl)))), h.scr ((xs.rf X).setI rfl _) (sm.rf M)⟩
  · have ne : ¬ (0 : Int32) ≤ iz (-12) := by decide
    exact ⟨_, _, _, bindE (shelfT c) (iteFE b2iT (iteTE (lek.mpr ck) (b2E q3 (iteFE ne rfl)))), bindE (shelfT c) (iteFE b2iT (iteTE (lek.mpr ck) (bindE (nrow _ (Or.inr (Or.inl ⟨q1, q2, rfl⟩))) (iteFE ne rfl)))), h.scr ((xs.rf X).setI rfl _) (sm.rf M)⟩
  have mr := nrow 0 (Or.inr (Or.inr ⟨q1, rfl⟩))
  have t1 : T.1 1 = iz m := by rw [(h.scr l2 (sm.rf M)).1.1.1, hm0]
  have m0 : M.1 0 = iz m := by rw [mi_eq, hm0]
  have le6 : (iz m ≤ (6 : Int32)) ↔ m ≤ 6 := by rw [show (6 : Int32) = iz 6 from rfl, iz_le (by omega)]; omega
  by_cases c6 : ¬ m ≤ 6
  · exact ⟨_, _, _, bindE (shelfT c) (iteFE b2iT (iteTE (lek.mpr ck) (b2E l1 (iteTE (by decide) (iteFE (by rw [t1]; exact fun y => c6 (le6.mp y)) rfl))))), bindE (shelfT c) (iteFE b2iT (iteTE (lek.mpr ck) (bindE mr (iteTE (by decide) (iteFE (by rw [m0]; exact fun y => c6 (le6.mp y)) rfl))))), h.scr l2 (sm.rf M)⟩
  replace c6 := Decidable.not_not.mp c6
  have xY : xs X (xI (xI T 16 (iz m)) 27 0) := (l2.setI rfl _).setI rfl _
  obtain ⟨pp, p1, p2⟩ := pp_ex h (N := N) (by omega) (s := s) (n := n) (m := m) (Y := xI (xI T 16 (iz m)) 27 0) (by omega) (by omega) l4 l5 xY rfl l3 l6
  have fl := fre_len m
  have lup : up (fre 0 m) := elF_up _ _ _
  have f6 : fc m ≤ 720 := by
    rcases (show m = 0 ∨ m = 1 ∨ m = 2 ∨ m = 3 ∨ m = 4 ∨ m = 5 ∨ m = 6 by omega) with e | e | e | e | e | e | e <;> rw [e] <;> decide
  obtain ⟨t, e1, e2⟩ := prm_path m (fre 0 m) fl lup
  have tl := prm_len m (fre 0 m) fl lup
  have tmem := prm_mem m (fre 0 m) fl lup
  obtain ⟨T', g1, g2⟩ := goFits_iz h (N := N) (s := s) (n := n) (by omega) hm0 p1 10 m (fre 0 m) [] 0 (xI (xI T 16 (iz m)) 27 0) (0, []) fl (by omega) rfl (Nat.pow_pos (by decide)) (by have : ([] : List Nat).length = 0 := rfl; omega) (fun x hx => by cases hx) (by rw [tl]; show 0 + fc m ≤ 100000; omega) ⟨xY, ⟨rfl, l3, l6⟩, rfl, fun y => absurd y (by decide), fun j x e => by simp at e⟩
  have em : ((prm m (fre 0 m)).map fun o => [] ++ o) = prm m (fre 0 m) := by
    have : (fun o : List Nat => [] ++ o) = id := by funext o; rfl
    rw [this, List.map_id]
  rw [em, e1] at g2
  rw [e1] at tl tmem
  obtain ⟨S1, a1, a2, a3⟩ := idn_l N hm0 (by omega) (iz s) (iz k) N 0 M (by omega) (by omega) (sm.rf M) (fun j x e => by simp [fre, elF] at e)
  have okm : ∀ q, q ∈ fre 0 m :: t → okW M m q := fun q hq => by
    obtain ⟨v1, v2⟩ := tmem q hq
    refine ⟨v1, fun x hx => ?_⟩
    have := (elF_mem _ m 0 x).mp (v2 x hx)
    omega
  have tl2 := tl
  rw [List.length_cons] at tl2
  obtain ⟨S', fu', b1, b2', b3⟩ := fits_l (n := n) (N := N) (by omega) hm0 (by omega) p2 (iz k) lup t N (fre 0 m) S1 (0, []) (by omega) e2 okm (by rw [tl]; show 0 + fc m ≤ 100000; omega) a2 a3 (fun y => absurd y (by decide))
  have cl := cnf_le pp (fre 0 m :: t) (0, [])
  rw [tl] at cl
  have cl' : (cnf pp (0, []) (fre 0 m :: t)).1 ≤ fc m := by have : (0, ([] : List Nat)).1 + fc m = fc m := Nat.zero_add _; omega
  have cf := cnf_from pp m (fre 0 m :: t) (0, []) (Or.inl rfl) (fun q hq => (okm q hq).1)
  obtain ⟨k1, k2, k3, k4, k5⟩ := g2
  -- both ends
  have fin := h.scr k1 b2'
  have t10 : T'.1 1 = iz m := by rw [fin.1.1.1, sm_mi b2' rfl, hm0]
  have s10 : S'.1 0 = iz m := by rw [b2'.2.1 0 rfl, mi_eq, hm0]
  have xx : ∀ r, (if (0 : Int32) ≤ iz k then (if T'.1 27 ≤ 0 then some ((-2), T') else (if T'.1 1 ≤ iz k then some ((-2), T') else chk 9 (iz k) (some (T'.2.1 19 (iz k).toNatClampNeg, T')))) else some (T'.1 27, T')) = r → x_fit N X (iz s) (iz k) = r := fun r hr => by
    unfold x_fit
    refine bindE (shelfT c) (iteFE b2iT (iteTE (lek.mpr ck) (b2E l1 (iteTE (by decide) (iteTE (by rw [t1]; exact le6.mpr c6) ?_)))))
    rw [nmE, nmE, t1]
    exact bindE g1 hr
  have mm : ∀ r, m_fit_b72 N (iz s) (iz k) (fu' + 1) S' (iz (cnf pp (0, []) (fre 0 m :: t)).1) 0 = r → m_fit N M (iz s) (iz k) = r := fun r hr => by
    unfold m_fit
    refine bindE (shelfT c) (iteFE b2iT (iteTE (lek.mpr ck) (bindE mr (iteTE (by decide) (iteTE (by rw [m0]; exact le6.mpr c6) ?_)))))
    exact (a1.trans b1).trans hr
  rw [m_fit_b72] at mm
  have le0 : ((0 : Int32) ≤ iz k) ↔ 0 ≤ k := by rw [show (0 : Int32) = iz 0 from rfl, iz_le (by omega)]
  have eq1 : (iz k = (-1 : Int32)) ↔ k = -1 := by rw [show (-1 : Int32) = iz (-1) from rfl, iz_eq (by omega)]
  have c0 : (iz (cnf pp (0, []) (fre 0 m :: t)).1 ≤ (0 : Int32)) ↔ (cnf pp (0, []) (fre 0 m :: t)).1 = 0 := by rw [show (0 : Int32) = iz 0 from rfl, iz_le (by omega)]; omega
  have lem : (iz m ≤ iz k) ↔ (m : Int) ≤ k := iz_le (by omega)
  rw [k3, t10] at xx
  by_cases k0 : 0 ≤ k
  · by_cases cz : (cnf pp (0, []) (fre 0 m :: t)).1 = 0
    · exact ⟨-2, T', S', xx _ (iteTE (le0.mpr k0) (iteTE (c0.mpr cz) rfl)), mm _ (iteTE rfl (iteFE (fun y => by have := eq1.mp y; omega) (iteTE (c0.mpr cz) rfl))), fin⟩
    · by_cases cm : (m : Int) ≤ k
      · exact ⟨-2, T', S', xx _ (iteTE (le0.mpr k0) (iteFE (fun y => cz (c0.mp y)) (iteTE (lem.mpr cm) rfl))), mm _ (iteTE rfl (iteFE (fun y => by have := eq1.mp y; omega) (iteFE (fun y => cz (c0.mp y)) (iteTE (by rw [s10]; exact lem.mpr cm) rfl)))), fin⟩
      · obtain ⟨kn', rfl⟩ : ∃ kn' : Nat, k = kn' := ⟨k.toNat, by omega⟩
        have ll : (cnf pp (0, []) (fre 0 m :: t)).2.length = m := by
          rcases cf with z | z
          · exact absurd z cz
          · exact z
        have e := List.getElem?_eq_getElem (l := (cnf pp (0, []) (fre 0 m :: t)).2) (i := kn') (by omega)
        have x19 := k4 (by omega) _ _ e
        have m53 := b3 (by omega) _ _ e
        refine ⟨iz (((cnf pp (0, []) (fre 0 m :: t)).2[kn']'(by omega) : Nat) : Int), T', S', xx _ (iteTE (le0.mpr k0) (iteFE (fun y => cz (c0.mp y)) (iteFE (fun y => cm (lem.mp y)) (chkE rfl (by omega) ?_)))), mm _ (iteTE rfl (iteFE (fun y => by have := eq1.mp y; omega) (iteFE (fun y => cz (c0.mp y)) (iteFE (by rw [s10]; exact fun y => cm (lem.mp y)) (chkE rfl (by omega) ?_))))), fin⟩
        · rw [iz_clampN (by omega), x19]
        · rw [iz_clampN (by omega), ma_eq S' 53, m53]
  · exact ⟨iz (cnf pp (0, []) (fre 0 m :: t)).1, T', S', xx _ (iteFE (fun y => k0 (le0.mp y)) rfl), mm _ (iteTE rfl (iteTE (eq1.mpr (by omega)) rfl)), fin⟩
