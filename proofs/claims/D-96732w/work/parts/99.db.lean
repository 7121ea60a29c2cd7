/-! PLAIN LAW: fit. Own text. -/
set_option maxRecDepth 100000
def cnf (pp : List Nat → Bool) : Nat × List Nat → List (List Nat) → Nat × List Nat
  | s, [] => s
  | s, o :: L => cnf pp (if pp o then (s.1 + 1, if s.1 = 0 then o else s.2) else s) L
theorem cnf_app (pp : List Nat → Bool) : ∀ (L L' : List (List Nat)) (s : Nat × List Nat), cnf pp s (L ++ L') = cnf pp (cnf pp s L) L' := by
  intro L
  induction L with
  | nil => intro L' s; rfl
  | cons o L ih => intro L' s; exact ih L' _
theorem cnf_le (pp : List Nat → Bool) : ∀ (L : List (List Nat)) (s : Nat × List Nat), (cnf pp s L).1 ≤ s.1 + L.length := by
  intro L
  induction L with
  | nil => intro s; exact Nat.le_refl _
  | cons o L ih =>
    intro s
    rw [cnf, List.length_cons]
    have := ih (if pp o then (s.1 + 1, if s.1 = 0 then o else s.2) else s)
    have e : (if pp o then (s.1 + 1, if s.1 = 0 then o else s.2) else s).1 ≤ s.1 + 1 := by
      split
      · exact Nat.le_refl _
      · omega
    omega
theorem cnf_from (pp : List Nat → Bool) (n : Nat) : ∀ (L : List (List Nat)) (s : Nat × List Nat), (s.1 = 0 ∨ s.2.length = n) → (∀ o, o ∈ L → o.length = n) → ((cnf pp s L).1 = 0 ∨ (cnf pp s L).2.length = n) := by
  intro L
  induction L with
  | nil => intro s h _; exact h
  | cons o L ih =>
    intro s h1 h2
    rw [cnf]
    refine ih _ ?_ (fun o ho => h2 o (List.mem_cons_of_mem _ ho))
    have := h2 o (List.mem_cons_self ..)
    split
    · right
      show (if s.1 = 0 then o else s.2).length = n
      split
      · exact this
      · omega
    · exact h1
theorem used_ok : ((List.range 512).all fun s => (List.range 9).all fun p => (iz (s : Int) ||| (1 <<< (iz (p : Int) &&& 31)) == iz ((s ||| 2 ^ p : Nat) : Int))) = true := by decide +kernel
theorem used_at {s p : Nat} (hs : s < 512) (hp : p < 9) : iz (s : Int) ||| (1 <<< (iz (p : Int) &&& 31)) = iz ((s ||| 2 ^ p : Nat) : Int) := by
  have h := List.all_eq_true.mp used_ok s (List.mem_range.mpr hs)
  have h := List.all_eq_true.mp h p (List.mem_range.mpr hp)
  simpa using h
theorem used_lt {s p m : Nat} (hs : s < 2 ^ m) (hp : p < m) : s ||| 2 ^ p < 2 ^ m := Nat.or_lt_two_pow hs (Nat.pow_lt_pow_right (by omega) hp)
def fre (u m : Nat) : List Nat := elF (fun p => !u.testBit p) 0 m
theorem fre_filter {u m p : Nat} : fre (u ||| 2 ^ p) m = (fre u m).filter (fun b => b != p) := by
  unfold fre
  rw [elF_filter]
  refine elF_cg m 0 (fun x _ _ => ?_)
  rw [Nat.testBit_or, Nat.testBit_two_pow]
  by_cases c : x = p
  · subst c; simp
  · have : ¬ p = x := fun e => c e.symm
    simp [c, this]
/-- the component's state on its way -/
def Sf (X : XS) (M : MS) (T : XS) (s n m : Nat) (c : Nat × List Nat) (pre : List Nat) : Prop := xs X T ∧ (T.1 16 = iz m ∧ T.1 26 = iz n ∧ ∀ j, j < n → T.2.1 25 j = (M.2.2 (60 * s + j)).toInt32) ∧ T.1 27 = iz c.1 ∧ (1 ≤ c.1 → ∀ (j x : Nat), c.2[j]? = some x → T.2.1 19 j = iz x) ∧ ∀ (j x : Nat), pre[j]? = some x → T.2.1 13 j = iz x
theorem Sf.pre {X T : XS} {M : MS} {s n m : Nat} {c : Nat × List Nat} {pre r : List Nat} (h : Sf X M T s n m c (pre ++ r)) : Sf X M T s n m c pre := ⟨h.1, h.2.1, h.2.2.1, h.2.2.2.1, fun j x e => h.2.2.2.2 j x (by
  rw [List.getElem?_append_left (List.getElem?_eq_some_iff.mp e).1]; exact e)⟩
theorem Sf.put {X T : XS} {M : MS} {s n m : Nat} {c : Nat × List Nat} {pre : List Nat} (h : Sf X M T s n m c pre) (p : Nat) : Sf X M (xA T 13 pre.length (iz p)) s n m c (pre ++ [p]) := by
  obtain ⟨h1, h2, h3, h4, h5⟩ := h
  refine ⟨h1.setA rfl _ _, ⟨h2.1, h2.2.1, fun j hj => by rw [xA21, if_neg (by decide)]; exact h2.2.2 j hj⟩, h3, fun q j x e => ?_, fun j x e => ?_⟩
  · rw [xA21, if_neg (by decide)]; exact h4 q j x e
  · rw [xA21, if_pos rfl]
    by_cases c : j = pre.length
    · subst c
      rw [List.getElem?_append_right (Nat.le_refl _), Nat.sub_self] at e
      rw [if_pos rfl, ← Option.some.inj e]
    · rw [if_neg c]
      have := (List.getElem?_eq_some_iff.mp e).1
      rw [List.length_append] at this
      have l1 : [p].length = 1 := rfl
      refine h5 j x ?_
      rw [List.getElem?_append_left (by omega)] at e
      exact e
def RXo (X T : XS) (M : MS) (s n m : Nat) (o : List Nat) : Prop := xs X T ∧ (T.1 16 = iz m ∧ T.1 26 = iz n ∧ ∀ j, j < n → T.2.1 25 j = (M.2.2 (60 * s + j)).toInt32) ∧ ∀ (j x : Nat), o[j]? = some x → T.2.1 13 j = iz x
def RSo (M S : MS) (m : Nat) (o : List Nat) : Prop := sm M S ∧ S.1 44 = iz m ∧ ∀ (j x : Nat), o[j]? = some x → S.2.1 45 j = iz x
def okW (M : MS) (m : Nat) (o : List Nat) : Prop := o.length = m ∧ ∀ x : Nat, x ∈ o → (x : Int) < mi M 0
theorem way2 {X T : XS} {M S : MS} (h : R X M) {N : Nat} (hN : 5000 ≤ N) {s n m : Nat} {o : List Nat} (hm : m ≤ 9) (hs : s < 6) (hn : n ≤ 60) (h42 : ma M 42 s = n) (ho : okW M m o) (hx : RXo X T M s n m o) (hr : RSo M S m o) : ∃ U V b, x_layDents N T 0 = some U ∧ x_isPaper N U = some b ∧ m_isPaper N S (iz s) = some (b, V) ∧ (xs X U ∧ (∀ r, r ≠ 14 → r ≠ 15 → U.2.1 r = T.2.1 r) ∧ ∀ r, r ≠ 17 → U.1 r = T.1 r) ∧ sm M V ∧ (∀ r, r ≠ 47 → r ≠ 48 → V.2.1 r = S.2.1 r) ∧ ∀ r, r ≠ 46 → V.1 r = S.1 r := by
  obtain ⟨x1, ⟨x2, x3, x4⟩, x5⟩ := hx
  obtain ⟨r1, r2, r3⟩ := hr
  obtain ⟨o1, o2⟩ := ho
  have rn : Rnd X M T S m (fun j => ((o.getD j 0 : Nat) : Int)) := ⟨x1, r1, by omega, x2, r2, fun j hj => by
    have e := List.getElem?_eq_getElem (l := o) (i := j) (by omega)
    have e2 : o.getD j 0 = o[j]'(by omega) := by rw [List.getD_eq_getElem?_getD, e]; rfl
    have := o2 _ (List.getElem_mem (l := o) (n := j) (by omega))
    refine ⟨?_, ?_, ?_⟩
    · show _ = iz ((o.getD j 0 : Nat) : Int)
      rw [e2]; exact x5 j _ e
    · show _ = iz ((o.getD j 0 : Nat) : Int)
      rw [e2]; exact r3 j _ e
    · show 0 ≤ ((o.getD j 0 : Nat) : Int) ∧ ((o.getD j 0 : Nat) : Int) < mi M 0
      rw [e2]; omega⟩
  obtain ⟨U, D, a1, a2, a3, a4, a5, a6, a7, a8, a9⟩ := dents_iz h rn hN (d := 0) (Or.inl rfl)
  obtain ⟨V, E, b1, b2, b3, b4, b5, b6, b7, b8, b9⟩ := walks_iz h rn hN (lim := 30) (by omega)
  have dl : D ≤ 4000 ∧ E ≤ 30 ∧ ∀ i, i < 30 → (i < D ↔ i < E) := by
    by_cases c : m = 0
    · rw [if_pos c] at a7 b7
      subst a7 b7
      exact ⟨by omega, by omega, fun _ _ => Iff.rfl⟩
    · rw [if_neg c] at a7 b7
      exact ⟨a7.1, b7.1, a7.lim b7⟩
  have u26 : U.1 26 = iz n := by rw [a9 26 (by decide)]; exact x3
  have u25 : ∀ j, j < n → U.2.1 25 j = (M.2.2 (60 * s + j)).toInt32 := fun j hj => by rw [a8 25 (by decide) (by decide)]; exact x4 j hj
  obtain ⟨b, p1, p2⟩ := ispaper_iz (T := U) (S := V) hs hn u26 (by rw [sm_ma b2 rfl]; exact h42) (fun j hj => by rw [b2.1]; exact u25 j hj) dl.1 dl.2.1 a5 b5 dl.2.2 a6 b6 (N := N) (by omega)
  refine ⟨U, V, b, a1, p1, ?_, ⟨a2, a8, a9⟩, b2, b8, b9⟩
  unfold m_isPaper
  exact bindE b1 p2
/-- whether an order fits: the same in both -/
theorem pp_ex {X Y : XS} {M : MS} (h : R X M) {N : Nat} (hN : 5000 ≤ N) {s n m : Nat} (hm : m ≤ 9) (hs : s < 6) (hn : n ≤ 60) (h42 : ma M 42 s = n) (hY : xs X Y) (y16 : Y.1 16 = iz m) (y26 : Y.1 26 = iz n) (y25 : ∀ j, j < n → Y.2.1 25 j = (M.2.2 (60 * s + j)).toInt32) : ∃ pp : List Nat → Bool, (∀ o T, okW M m o → RXo X T M s n m o → ∃ U, x_layDents N T 0 = some U ∧ x_isPaper N U = some (pp o) ∧ xs X U ∧ (∀ r, r ≠ 14 → r ≠ 15 → U.2.1 r = T.2.1 r) ∧ ∀ r, r ≠ 17 → U.1 r = T.1 r) ∧ ∀ o S, okW M m o → RSo M S m o → ∃ V, m_isPaper N S (iz s) = some (pp o, V) ∧ sm M V ∧ (∀ r, r ≠ 47 → r ≠ 48 → V.2.1 r = S.2.1 r) ∧ ∀ r, r ≠ 46 → V.1 r = S.1 r := by
  have key : ∀ o : List Nat, ∃ b : Bool, (okW M m o → (∀ T, RXo X T M s n m o → ∃ U, x_layDents N T 0 = some U ∧ x_isPaper N U = some b ∧ xs X U ∧ (∀ r, r ≠ 14 → r ≠ 15 → U.2.1 r = T.2.1 r) ∧ ∀ r, r ≠ 17 → U.1 r = T.1 r) ∧ ∀ S, RSo M S m o → ∃ V, m_isPaper N S (iz s) = some (b, V) ∧ sm M V ∧ (∀ r, r ≠ 47 → r ≠ 48 → V.2.1 r = S.2.1 r) ∧ ∀ r, r ≠ 46 → V.1 r = S.1 r) := by
    intro o
    by_cases c : okW M m o
    · have xt : RXo X (Y.1, updA Y.2.1 13 (fun j => iz ((o.getD j 0 : Nat) : Int)), Y.2.2) M s n m o := by
        have ne : ∀ r, r ≠ 13 → updA Y.2.1 13 (fun j => iz ((o.getD j 0 : Nat) : Int)) r = Y.2.1 r := fun r hr => by
          unfold updA
          rw [if_neg hr]
        refine ⟨⟨hY.1, hY.2.1, fun k hk => ?_⟩, ⟨y16, y26, fun j hj => ?_⟩, fun j x e => ?_⟩
        · exact (ne k (fun e => by rw [e] at hk; cases hk)).trans (hY.2.2 k hk)
        · exact (congrFun (ne 25 (by decide)) j).trans (y25 j hj)
        · have e0 : updA Y.2.1 13 (fun j => iz ((o.getD j 0 : Nat) : Int)) 13 j = iz ((o.getD j 0 : Nat) : Int) := by
            unfold updA
            rw [if_pos rfl]
          have e1 : o.getD j 0 = x := by rw [List.getD_eq_getElem?_getD, e]; rfl
          rw [e1] at e0
          exact e0
      have st : RSo M (fun k => if k = 44 then iz m else M.1 k, updA M.2.1 45 (fun j => iz ((o.getD j 0 : Nat) : Int)), M.2.2) m o := by
        refine ⟨⟨rfl, fun k hk => ?_, fun k hk => ?_⟩, rfl, fun j x e => ?_⟩
        · show (if k = 44 then iz m else M.1 k) = M.1 k
          rw [if_neg (fun e => by rw [e] at hk; cases hk)]
        · have e0 : updA M.2.1 45 (fun j => iz ((o.getD j 0 : Nat) : Int)) k = M.2.1 k := by
            unfold updA
            rw [if_neg (fun e => by rw [e] at hk; cases hk)]
          exact e0
        · have e0 : updA M.2.1 45 (fun j => iz ((o.getD j 0 : Nat) : Int)) 45 j = iz ((o.getD j 0 : Nat) : Int) := by
            unfold updA
            rw [if_pos rfl]
          have e1 : o.getD j 0 = x := by rw [List.getD_eq_getElem?_getD, e]; rfl
          rw [e1] at e0
          exact e0
      obtain ⟨U0, V0, b, u1, u2, u3, -⟩ := way2 h hN hm hs hn h42 c xt st
      refine ⟨b, fun _ => ⟨fun T hT => ?_, fun S hS => ?_⟩⟩
      · obtain ⟨U, V, b', v1, v2, v3, v4, -⟩ := way2 h hN hm hs hn h42 c hT st
        rw [u3] at v3
        cases v3
        exact ⟨U, v1, v2, v4⟩
      · obtain ⟨U, V, b', v1, v2, v3, v4, v5⟩ := way2 h hN hm hs hn h42 c xt hS
        rw [u1] at v1
        cases v1
        rw [u2] at v2
        cases v2
        exact ⟨V, v3, v5⟩
    · exact ⟨false, fun z => absurd z c⟩
  refine ⟨fun o => Classical.choose (key o), fun o T ho hT => ?_, fun o S ho hS => ?_⟩
  · exact (Classical.choose_spec (key o) ho).1 T hT
  · exact (Classical.choose_spec (key o) ho).2 S hS
theorem cpf_l (o : XS → Int32 → Int32 → Option XS) (N : Nat) {X : XS} {M : MS} (h : R X M) {s n m : Nat} {pre : List Nat} (hm0 : mi M 0 = m) (hp : pre.length = m) : ∀ (fu i : Nat) (T : XS), i ≤ m → m - i < fu → Sf X M T s n m (0, []) pre → (∀ (j x : Nat), j < i → pre[j]? = some x → T.2.1 19 j = iz x) → ∃ T', x_goFits_b30 o N fu T (iz i) = some T' ∧ Sf X M T' s n m (1, pre) pre := by
  intro fu
  have n9 := h.1.1.2
  induction fu with
  | zero => intro i T a b; omega
  | succ fu ih =>
    intro i T a b hx h2
    obtain ⟨h1, h3, h4, h5, h6⟩ := id hx
    rw [x_goFits_b30, (h.scr h1 (sm.rf M)).1.1.1, hm0]
    by_cases c : m ≤ i
    · refine ⟨xI T 27 (iz 1), iteTE ((iz_le (by omega)).mpr (by omega)) ?_, h1.setI rfl _, h3, rfl, fun _ j x e => h2 j x (by have : j < pre.length := (List.getElem?_eq_some_iff.mp e).1; omega) e, h6⟩
      rw [nmE, h4]; rfl
    have ni : iz i + 1 = iz ((i + 1 : Nat) : Int) := by rw [show (1 : Int32) = iz 1 from rfl, iz_add]; rfl
    have ei := List.getElem?_eq_getElem (l := pre) (i := i) (by omega)
    have e13 := h6 i _ ei
    obtain ⟨T', g1, g2⟩ := ih (i + 1) (xA T 19 i (iz ((pre[i]'(by omega) : Nat) : Int))) (by omega) (by omega) ⟨h1.setA rfl _ _, ⟨h3.1, h3.2.1, fun j hj => by rw [xA21, if_neg (by decide)]; exact h3.2.2 j hj⟩, h4, fun z => absurd z (by decide), fun j x e => by rw [xA21, if_neg (by decide)]; exact h6 j x e⟩ (fun j x hj e => by
      rw [xA21, if_pos rfl]
      by_cases d : j = i
      · subst d
        rw [ei] at e
        rw [if_pos rfl, ← Option.some.inj e]
      · rw [if_neg d]; exact h2 j x (by omega) e)
    refine ⟨T', iteFE (by rw [iz_le (by omega)]; omega) (chkE rfl (by omega) (chkE rfl (by omega) ?_)), g2⟩
    rw [nmE, nmE, ni, iz_clampN (by omega), e13]
    exact g1
theorem goFits_iz {X : XS} {M : MS} (h : R X M) {N s n m : Nat} (hN : 20 ≤ N) (hm0 : mi M 0 = m) {pp : List Nat → Bool} (hpp : ∀ o T, okW M m o → RXo X T M s n m o → ∃ U, x_layDents N T 0 = some U ∧ x_isPaper N U = some (pp o) ∧ xs X U ∧ (∀ r, r ≠ 14 → r ≠ 15 → U.2.1 r = T.2.1 r) ∧ ∀ r, r ≠ 17 → U.1 r = T.1 r) : ∀ (d k : Nat) (l pre : List Nat) (u : Nat) (T : XS) (c : Nat × List Nat), l.length = k → k < d → l = fre u m → u < 2 ^ m → pre.length + k = m → (∀ x, x ∈ pre → x < m) → c.1 + (prm k l).length ≤ 100000 → Sf X M T s n m c pre → ∃ T', x_goFits N d T (iz pre.length) (iz u) = some T' ∧ Sf X M T' s n m (cnf pp c ((prm k l).map fun o => pre ++ o)) pre := by
  have n9 := h.1.1.2
  have p9 := pow9 (n := m) (by omega)
  intro d
  induction d with
  | zero => intro k l pre u T c _ h2; omega
  | succ d ih =>
    intro k l pre u T c hl hk hs hs2 hp hpm hc hx
    have hul : up l := by rw [hs]; exact elF_up _ _ _
    have lm : ∀ x, x ∈ l → x < m := fun x hx => by rw [hs] at hx; have := (elF_mem _ m 0 x).mp hx; omega
    obtain ⟨h1, h3, h4, h5, h6⟩ := id hx
    have rp := (h.scr h1 (sm.rf M)).1
    rw [x_goFits, rp.1.1, hm0]
    by_cases c0 : k = 0
    · subst c0
      have l0 : l = [] := by cases l with | nil => rfl | cons a l => cases hl
      have pm : pre.length = m := by omega
      obtain ⟨U, a1, a2, a3, a4, a5⟩ := hpp pre T ⟨pm, fun x hx => by have := hpm x hx; omega⟩ ⟨h1, h3, h6⟩
      have res : cnf pp c ((prm 0 l).map fun o => pre ++ o) = (if pp pre then (c.1 + 1, if c.1 = 0 then pre else c.2) else c) := by
        show cnf pp c [pre ++ []] = _
        rw [List.append_nil]; rfl
      rw [res]
      have hU : Sf X M U s n m c pre := ⟨a3, ⟨by rw [a5 16 (by decide)]; exact h3.1, by rw [a5 26 (by decide)]; exact h3.2.1, fun j hj => by rw [a4 25 (by decide) (by decide)]; exact h3.2.2 j hj⟩, by rw [a5 27 (by decide)]; exact h4, fun z j x e => by rw [a4 19 (by decide) (by decide)]; exact h5 z j x e, fun j x e => by rw [a4 13 (by decide) (by decide)]; exact h6 j x e⟩
      have c1 : c.1 ≤ 100000 := by omega
      by_cases cp : pp pre = true
      · rw [if_pos cp]
        rw [cp] at a2
        by_cases cz : c.1 = 0
        · rw [if_pos cz, cz]
          obtain ⟨T', g1, g2⟩ := cpf_l (x_goFits N d) N h hm0 pm N 0 U (by omega) (by omega) ⟨hU.1, hU.2.1, by rw [hU.2.2.1, cz], fun z => absurd z (by decide), hU.2.2.2.2⟩ (fun j x hj _ => absurd hj (by omega))
          exact ⟨T', iteTE (by rw [pm]) (bindE a1 (bindE a2 (iteFE b2iT (iteTE (by rw [hU.2.2.1, cz]; rfl) g1)))), g2⟩
        · rw [if_neg cz]
          refine ⟨xI U 27 (iz ((c.1 + 1 : Nat) : Int)), iteTE (by rw [pm]) (bindE a1 (bindE a2 (iteFE b2iT (iteFE (by rw [hU.2.2.1, show (0 : Int32) = iz 0 from rfl, iz_eq (by omega)]; omega) ?_)))), hU.1.setI rfl _, hU.2.1, rfl, fun _ => hU.2.2.2.1 (by omega), hU.2.2.2.2⟩
          rw [nmE, hU.2.2.1, show (1 : Int32) = iz 1 from rfl, iz_add]; rfl
      · rw [if_neg cp]
        rw [show pp pre = false by simpa using cp] at a2
        exact ⟨U, iteTE (by rw [pm]) (bindE a1 (bindE a2 (iteTE rfl rfl))), hU⟩
    · obtain ⟨k', rfl⟩ : ∃ k', k = k' + 1 := ⟨k - 1, by omega⟩
      have loop : ∀ (fu e p : Nat) (T : XS) (c : Nat × List Nat), e < fu → p + e = m → c.1 + ((elF (fun p => !u.testBit p) p e).flatMap fun x => (prm k' (l.filter fun b => b != x)).map fun o => x :: o).length ≤ 100000 → Sf X M T s n m c pre → ∃ T', x_goFits_b69 (x_goFits N d) N (iz pre.length) (iz u) fu T (iz p) = some T' ∧ Sf X M T' s n m (cnf pp c (((elF (fun p => !u.testBit p) p e).flatMap fun x => (prm k' (l.filter fun b => b != x)).map fun o => x :: o).map fun o => pre ++ o)) pre := by
        intro fu
        induction fu with
        | zero => intro e p T c q; omega
        | succ fu ihl =>
          intro e p T c he hpe hc hx
          obtain ⟨h1, h3, h4, h5, h6⟩ := id hx
          have np : iz p + 1 = iz ((p + 1 : Nat) : Int) := by rw [show (1 : Int32) = iz 1 from rfl, iz_add]; rfl
          have rp := (h.scr h1 (sm.rf M)).1
          rw [x_goFits_b69, rp.1.1, hm0]
          cases e with
          | zero => exact ⟨T, iteTE (by rw [iz_le (by omega)]; omega) rfl, hx⟩
          | succ e =>
            have cc : ¬ iz m ≤ iz p := by rw [iz_le (by omega)]; omega
            have hb := has_iz (s := u) (p := p) (by omega) (by omega)
            rw [elF] at hc ⊢
            by_cases ct : u.testBit p = true
            · rw [ct] at hb
              have cf : ¬ ((fun p => !u.testBit p) p = true) := by simp [ct]
              rw [if_neg cf] at hc ⊢
              obtain ⟨T', k1, k2⟩ := ihl e (p + 1) T c (by omega) (by omega) hc hx
              refine ⟨T', iteFE cc (bindE hb (iteFE b2iT ?_)), k2⟩
              rw [nmE, np]; exact k1
            · rw [show u.testBit p = false by simpa using ct] at hb
              have cf : (fun p => !u.testBit p) p = true := by simp [ct]
              rw [if_pos cf] at hc ⊢
              rw [List.flatMap_cons, List.map_append, cnf_app, List.map_map]
              rw [List.flatMap_cons, List.length_append, List.length_map] at hc
              have pl : p ∈ l := by rw [hs]; exact (elF_mem _ m 0 p).mpr ⟨by omega, by omega, by simp [ct]⟩
              obtain ⟨uu, v, euv⟩ := split_mem pl
              have hu' := hul
              have hl' := hl
              rw [euv] at hu' hl'
              have fl := filter_out hu'
              have x13 := hx.put p
              obtain ⟨T9, g1, g2⟩ := ih k' (l.filter fun b => b != p) (pre ++ [p]) (u ||| 2 ^ p) (xA T 13 pre.length (iz p)) c (by
                  rw [euv, fl]; simp at hl' ⊢; omega) (by omega) (by rw [fre_filter, hs]) (used_lt hs2 (by omega)) (by rw [List.length_append]; have : [p].length = 1 := rfl; omega) (fun x hx => by
                  rcases List.mem_append.mp hx with z | z
                  · exact hpm x z
                  · have : x = p := by simpa using z
                    omega) (by omega) x13
              have em : ((fun o => pre ++ o) ∘ fun o => p :: o) = fun o => (pre ++ [p]) ++ o := by
                funext o
                show pre ++ p :: o = _
                rw [List.append_assoc]; rfl
              rw [em]
              have cl := cnf_le pp ((prm k' (l.filter fun b => b != p)).map fun o => (pre ++ [p]) ++ o) c
              rw [List.length_map] at cl
              obtain ⟨T', k1, k2⟩ := ihl e (p + 1) T9 _ (by omega) (by omega) (by omega) g2.pre
              have g1' : x_goFits N d (xA T 13 pre.length (iz p)) (iz ((pre.length : Nat) : Int) + 1) (iz ((u ||| 2 ^ p : Nat) : Int)) = some T9 := by
                rw [← g1]
                congr 1
                rw [show (1 : Int32) = iz 1 from rfl, iz_add, List.length_append]; rfl
              refine ⟨T', iteFE cc (bindE hb (iteTE rfl (chkE rfl (by omega) ?_))), k2⟩
              rw [nmE, iz_clampN (by omega), used_at (s := u) (p := p) (by omega) (by omega)]
              refine bindE g1' ?_
              rw [nmE, np]; exact k1
      have e : prm (k' + 1) l = (elF (fun p => !u.testBit p) 0 m).flatMap fun x => (prm k' (l.filter fun b => b != x)).map fun o => x :: o := by
        show l.flatMap _ = _
        rw [hs]; rfl
      rw [e] at hc
      obtain ⟨T', g1, g2⟩ := loop N m 0 T c (by omega) (by omega) hc hx
      refine ⟨T', iteFE (by rw [iz_eq (by omega)]; omega) g1, ?_⟩
      rw [e]
      exact g2
