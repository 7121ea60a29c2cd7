/-! PLAIN LAW: dents in both, red, first, by. Own text. -/
set_option maxRecDepth 100000
/-- the dents of a round, in both -/
def FW (X : XS) (M : MS) (T : XS) (S : MS) (D : Nat) (q t : Nat → Int) : Prop := xs X T ∧ sm M S ∧ D ≤ 4000 ∧ T.1 17 = iz D ∧ S.1 46 = iz D ∧ (∀ j, j < D → (T.2.1 14 j = iz (q j) ∧ T.2.1 15 j = iz (t j)) ∧ (S.2.1 48 j = iz (q j) ∧ S.2.1 47 j = iz (t j)) ∧ (0 ≤ q j ∧ q j < mi M 0) ∧ 0 ≤ t j ∧ t j ≤ 1999) ∧ ∀ i j, i ≤ j → j < D → t i ≤ t j
theorem qf_R {X T : XS} {M S : MS} {L : Nat} {g : Nat → Int} (hr : Rnd X M T S L g) (hL : 1 ≤ L) (d : Int) (j : Nat) : 0 ≤ qf g L d j ∧ qf g L d j < mi M 0 := by
  have kl : j % L < L := Nat.mod_lt _ (by omega)
  unfold qf
  split
  · exact (hr.2.2.2.2.2 _ kl).2.2
  · exact (hr.2.2.2.2.2 (L - 1 - j % L) (by omega)).2.2
theorem tm_mono {X : XS} {M : MS} (h : RP X M) {q : Nat → Int} (hq : ∀ k, 0 ≤ q k ∧ q k < mi M 0) (i : Nat) : ∀ d : Nat, tm M q i ≤ tm M q (i + d) := by
  intro d
  have hs := h.2.2.1.2.2.2
  induction d with
  | zero => exact Int.le_refl _
  | succ d ih =>
    have := dst_R h (p := q (i + d)) (q := q (i + d + 1)) (by have := hq (i + d); omega) (by have := hq (i + d + 1); omega)
    have e : tm M q (i + (d + 1)) = tm M q (i + d) + (ma M 5 3 + dst M (q (i + d)) (q (i + d + 1))) := rfl
    omega
theorem forth_iz {X T : XS} {M S : MS} {L : Nat} {g : Nat → Int} (h : R X M) (hr : Rnd X M T S L g) {N : Nat} (hN : 5000 ≤ N) : ∃ U V D, x_layDents N T 0 = some U ∧ m_walks N S 4000 = some V ∧ FW X M U V D (qf g L 0) (tm M (qf g L 0)) ∧ U.1 16 = T.1 16 ∧ U.2.1 13 = T.2.1 13 ∧ V.1 44 = S.1 44 ∧ V.2.1 45 = S.2.1 45 := by
  obtain ⟨U, D, a1, a2, a3, a4, a5, a6, a7, a8⟩ := dents_iz h hr hN (d := 0) (Or.inl rfl)
  obtain ⟨V, E, b1, b2, b3, b4, b5, b6, b7, b8⟩ := walks_iz h hr hN (lim := 4000) (by omega)
  by_cases c : L = 0
  · rw [if_pos c] at a7 b7
    subst a7 b7
    exact ⟨U, V, 0, a1, b1, ⟨a2, b2, by omega, a5, b5, fun j hj => absurd hj (by omega), fun i j _ hj => absurd hj (by omega)⟩, a3, a4, b3, b4⟩
  · rw [if_neg c] at a7 b7
    obtain rfl := a7.uniq b7
    have gz := qf_R hr (by omega) 0
    refine ⟨U, V, D, a1, b1, ⟨a2, b2, a7.1, a5, b5, fun j hj => ⟨a6 j hj, b6 j hj, gz j, (tm_R h.1 gz j).1, a7.2.1 j hj⟩, fun i j hij hj => ?_⟩, a3, a4, b3, b4⟩
    have := tm_mono h.1 gz i (j - i)
    rw [show i + (j - i) = j by omega] at this
    exact this
theorem lay_forth {X : XS} {M : MS} (h : R X M) {N : Nat} (hN : 5000 ≤ N) {s : Nat} (hs : s < 6) : (∃ c : Int, (c = -11 ∨ c = -12) ∧ x_layForth N X (iz s) = some (iz c, xI X 16 0) ∧ m_noRow M (iz s) 0 = some (iz c)) ∨ ∃ T S V D q t, x_layForth N X (iz s) = some (0, T) ∧ m_noRow M (iz s) 0 = some 0 ∧ m_reads N M (iz s) = some S ∧ m_walks N S 4000 = some V ∧ FW X M T V D q t := by
  rcases lay_read h (N := N) (by omega) hs with ⟨e, he, l1, l2⟩ | ⟨T, S, L, g, l1, l2, l3, l4⟩
  · refine Or.inl ⟨e, he, ?_, l2⟩
    unfold x_layForth
    exact b2E l1 (iteFE (by rw [show (0 : Int32) = iz 0 from rfl, iz_eq (by omega)]; omega) rfl)
  · obtain ⟨U, V, D, u1, u2, u3, -⟩ := forth_iz h l4 hN
    refine Or.inr ⟨U, S, V, D, _, _, ?_, l2, l3, u2, u3⟩
    unfold x_layForth
    exact b2E l1 (iteTE rfl (bindE u1 rfl))
theorem red_l {X T : XS} {M S : MS} {D : Nat} {q t : Nat → Int} (hf : FW X M T S D q t) (N : Nat) (l2 : Int32) : ∀ (n i : Nat) (l4 : Int32), i ≤ D → D - i < n → ∃ v, x_red_b44 N l2 n T l4 (iz i) = some (v, T) ∧ m_red_b57 N l2 n S l4 (iz i) = some (v, S) := by
  obtain ⟨h1, h2, h3, h4, h5, h6, h7⟩ := hf
  intro n
  induction n with
  | zero => intro i l4 a b; omega
  | succ n ih =>
    intro i l4 a b
    have ni : iz i + 1 = iz ((i + 1 : Nat) : Int) := by rw [show (1 : Int32) = iz 1 from rfl, iz_add]; rfl
    rw [x_red_b44, m_red_b57, h4, h5]
    by_cases c : D ≤ i
    · exact ⟨l4, iteTE (by rw [iz_le (by omega)]; omega) rfl, iteTE (by rw [iz_le (by omega)]; omega) rfl⟩
    have cc : ¬ iz D ≤ iz i := by rw [iz_le (by omega)]; omega
    obtain ⟨⟨a1, a2⟩, ⟨b1, b2⟩, -⟩ := h6 i (by omega)
    simp only [nmE]
    rw [iz_clampN (by omega), a1, a2, b1, b2, ni]
    by_cases w : iz (t i) / 60 = l2
    · obtain ⟨v, v1, v2⟩ := ih (i + 1) (l4 &&& ((1 <<< (iz (q i) &&& 31)) ^^^ (-1))) (by omega) (by omega)
      exact ⟨v, iteFE cc (chkE rfl (by omega) (iteTE w (chkE rfl (by omega) v1))), iteFE cc (chkE rfl (by omega) (iteTE w (chkE rfl (by omega) v2)))⟩
    · obtain ⟨v, v1, v2⟩ := ih (i + 1) l4 (by omega) (by omega)
      exact ⟨v, iteFE cc (chkE rfl (by omega) (iteFE w v1)), iteFE cc (chkE rfl (by omega) (iteFE w v2))⟩
theorem law_red {X : XS} {M : MS} (h : R X M) {N : Nat} (hN : 5000 ≤ N) (p w : Int32) : same (x_red N X p w) (m_red N M p w) := by
  obtain ⟨z, hz, rfl⟩ := izE p
  obtain ⟨r, hr, rfl⟩ := izE w
  unfold x_red m_red
  by_cases c : ¬ (0 ≤ z ∧ z ≤ 5)
  · exact ⟨_, _, _, bindE (shelfF hz c) (iteTE rfl rfl), bindE (shelfF hz c) (iteTE rfl rfl), h⟩
  replace c := Decidable.not_not.mp c
  have w1 : x_in (iz r) 0 15 = some (decide (0 ≤ r ∧ r ≤ 15)) := by rw [show (0 : Int32) = iz 0 from rfl, show (15 : Int32) = iz 15 from rfl, x_in_iz (by omega)]
  have w2 : m_within (iz r) 0 15 = some (decide (0 ≤ r ∧ r ≤ 15)) := w1
  by_cases cp : ¬ (0 ≤ r ∧ r ≤ 15)
  · rw [decide_eq_false cp] at w1 w2
    exact ⟨_, _, _, bindE (shelfT c) (iteFE b2iT (bindE w1 (iteTE rfl rfl))), bindE (shelfT c) (iteFE b2iT (bindE w2 (iteTE rfl rfl))), h⟩
  replace cp := Decidable.not_not.mp cp
  rw [decide_eq_true cp] at w1 w2
  obtain ⟨s, rfl⟩ : ∃ s : Nat, z = s := ⟨z.toNat, by omega⟩
  rcases lay_forth h hN (s := s) (by omega) with ⟨e, he, l1, l2⟩ | ⟨T, S, V, D, q, t, l1, l2, l3, l4, l5⟩
  · have ne : ¬ (0 : Int32) ≤ iz e := by rw [show (0 : Int32) = iz 0 from rfl, iz_le (by omega)]; omega
    exact ⟨_, _, _, bindE (shelfT c) (iteFE b2iT (bindE w1 (iteFE b2iT (b2E l1 (iteFE ne rfl))))), bindE (shelfT c) (iteFE b2iT (bindE w2 (iteFE b2iT (bindE l2 (iteFE ne rfl))))), h.scr ((xs.rf X).setI rfl _) (sm.rf M)⟩
  have fin := h.scr l5.1 l5.2.1
  have D4 := l5.2.2.1
  have e0 : T.1 1 = V.1 0 := by rw [fin.1.1.1, ← mi_eq]
  obtain ⟨v, v1, v2⟩ := red_l l5 N (iz r) N 0 ((1 <<< ((V.1 0) &&& 31)) - 1) (by omega) (by omega)
  refine ⟨v, T, V, bindE (shelfT c) (iteFE b2iT (bindE w1 (iteFE b2iT (b2E l1 (iteTE (by decide) ?_))))), bindE (shelfT c) (iteFE b2iT (bindE w2 (iteFE b2iT (bindE l2 (iteTE (by decide) (bindE l3 (bindE l4 ?_))))))), fin⟩
  · rw [nmE, e0]; exact v1
  · rw [nmE]; exact v2
theorem first_l {X T : XS} {M S : MS} {D : Nat} {q t : Nat → Int} (hf : FW X M T S D q t) (N : Nat) (l2 : Int32) : ∀ (n i : Nat), i ≤ D → D - i < n → ∃ v, x_firstOf_b2 N T l2 n (iz i) = some v ∧ m_first_b46 N l2 n S (iz i) = some (v, S) ∧ ((i < D → 999 < t i) → v = -2) := by
  obtain ⟨h1, h2, h3, h4, h5, h6, h7⟩ := hf
  intro n
  induction n with
  | zero => intro i a b; omega
  | succ n ih =>
    intro i a b
    have ni : iz i + 1 = iz ((i + 1 : Nat) : Int) := by rw [show (1 : Int32) = iz 1 from rfl, iz_add]; rfl
    rw [x_firstOf_b2, m_first_b46, h4, h5]
    by_cases c : D ≤ i
    · exact ⟨-2, iteTE (by rw [iz_le (by omega)]; omega) rfl, iteTE (by rw [iz_le (by omega)]; omega) rfl, fun _ => rfl⟩
    have cc : ¬ iz D ≤ iz i := by rw [iz_le (by omega)]; omega
    obtain ⟨⟨a1, a2⟩, ⟨b1, b2⟩, -, t0, t1⟩ := h6 i (by omega)
    simp only [nmE]
    rw [iz_clampN (by omega), a1, a2, b1, b2, ni]
    obtain ⟨v, v1, v2, v3⟩ := ih (i + 1) (by omega) (by omega)
    have k1 : (999 < iz (t i)) ↔ 999 < t i := by rw [show (999 : Int32) = iz 999 from rfl, iz_lt (by omega)]
    have k2 : (1000 ≤ iz (t i)) ↔ 1000 ≤ t i := by rw [show (1000 : Int32) = iz 1000 from rfl, iz_le (by omega)]
    by_cases w : 999 < t i
    · have z : v = -2 := v3 (fun q => by have := h7 i (i + 1) (by omega) q; omega)
      subst z
      by_cases u : iz (q i) = l2
      · exact ⟨-2, iteFE cc (chkE rfl (by omega) (iteTE (k1.mpr w) rfl)), iteFE cc (chkE rfl (by omega) (iteTE u (chkE rfl (by omega) (iteTE (k2.mpr (by omega)) v2)))), fun _ => rfl⟩
      · exact ⟨-2, iteFE cc (chkE rfl (by omega) (iteTE (k1.mpr w) rfl)), iteFE cc (chkE rfl (by omega) (iteFE u v2)), fun _ => rfl⟩
    · have w' : ¬ 999 < iz (t i) := fun y => w (k1.mp y)
      by_cases u : iz (q i) = l2
      · exact ⟨iz (t i), iteFE cc (chkE rfl (by omega) (iteFE w' (chkE rfl (by omega) (iteTE u (chkE rfl (by omega) rfl))))), iteFE cc (chkE rfl (by omega) (iteTE u (chkE rfl (by omega) (iteFE (fun y => by have := k2.mp y; omega) (chkE rfl (by omega) rfl))))), fun y => by have := y (by omega); omega⟩
      · exact ⟨v, iteFE cc (chkE rfl (by omega) (iteFE w' (chkE rfl (by omega) (iteFE u v1)))), iteFE cc (chkE rfl (by omega) (iteFE u v2)), fun y => by have := y (by omega); omega⟩
theorem law_first {X : XS} {M : MS} (h : R X M) {N : Nat} (hN : 5000 ≤ N) (p w : Int32) : same (x_first N X p w) (m_first N M p w) := by
  obtain ⟨z, hz, rfl⟩ := izE p
  obtain ⟨r, hr, rfl⟩ := izE w
  unfold x_first m_first
  by_cases c : ¬ (0 ≤ z ∧ z ≤ 5)
  · exact ⟨_, _, _, bindE (shelfF hz c) (iteTE rfl rfl), bindE (shelfF hz c) (iteTE rfl rfl), h⟩
  replace c := Decidable.not_not.mp c
  have w1 := x_isPost_iz h.1.1.1 h.1.1.2 hr
  have w2 := m_isPost_iz (M := M) h.1.1.2 hr
  by_cases cp : ¬ (0 ≤ r ∧ r < mi M 0)
  · rw [decide_eq_false cp] at w1 w2
    exact ⟨_, _, _, bindE (shelfT c) (iteFE b2iT (bindE w1 (iteTE rfl rfl))), bindE (shelfT c) (iteFE b2iT (bindE w2 (iteTE rfl rfl))), h⟩
  replace cp := Decidable.not_not.mp cp
  rw [decide_eq_true cp] at w1 w2
  obtain ⟨s, rfl⟩ : ∃ s : Nat, z = s := ⟨z.toNat, by omega⟩
  rcases lay_forth h hN (s := s) (by omega) with ⟨e, he, l1, l2⟩ | ⟨T, S, V, D, q, t, l1, l2, l3, l4, l5⟩
  · have ne : ¬ (0 : Int32) ≤ iz e := by rw [show (0 : Int32) = iz 0 from rfl, iz_le (by omega)]; omega
    exact ⟨_, _, _, bindE (shelfT c) (iteFE b2iT (bindE w1 (iteFE b2iT (b2E l1 (iteFE ne rfl))))), bindE (shelfT c) (iteFE b2iT (bindE w2 (iteFE b2iT (bindE l2 (iteFE ne rfl))))), h.scr ((xs.rf X).setI rfl _) (sm.rf M)⟩
  have D4 := l5.2.2.1
  obtain ⟨v, v1, v2, -⟩ := first_l l5 N (iz r) N 0 (by omega) (by omega)
  exact ⟨v, T, V, bindE (shelfT c) (iteFE b2iT (bindE w1 (iteFE b2iT (b2E l1 (iteTE (by decide) (bindE v1 rfl)))))), bindE (shelfT c) (iteFE b2iT (bindE w2 (iteFE b2iT (bindE l2 (iteTE (by decide) (bindE l3 (bindE l4 v2))))))), h.scr l5.1 l5.2.1⟩
theorem by_l {X T : XS} {M S : MS} {D : Nat} {q t : Nat → Int} (hf : FW X M T S D q t) (N : Nat) (l2 l3 : Int32) : ∀ (n i : Nat), i ≤ D → D - i < n → ∃ v, x_by_b43 N l2 l3 n T (iz i) = some (v, T) ∧ m_by_b56 N l2 l3 n S (iz i) = some (v, S) := by
  obtain ⟨h1, h2, h3, h4, h5, h6, h7⟩ := hf
  intro n
  induction n with
  | zero => intro i a b; omega
  | succ n ih =>
    intro i a b
    have ni : iz i + 1 = iz ((i + 1 : Nat) : Int) := by rw [show (1 : Int32) = iz 1 from rfl, iz_add]; rfl
    have fin : ∃ v, x_by_b69 N l3 (iz i) T = some (v, T) ∧ m_by_b82 N l3 (iz i) S = some (v, S) := by
      unfold x_by_b69 m_by_b82
      by_cases w : l3 = 1
      · exact ⟨_, iteTE w rfl, iteTE w rfl⟩
      by_cases u : i = 0
      · subst u
        exact ⟨_, iteFE w (iteTE rfl rfl), iteFE w (iteTE rfl rfl)⟩
      · have ux : ¬ iz i = 0 := by rw [show (0 : Int32) = iz 0 from rfl, iz_eq (by omega)]; omega
        have di : iz i - 1 = iz ((i - 1 : Nat) : Int) := by rw [show (1 : Int32) = iz 1 from rfl, iz_sub]; congr 1; omega
        obtain ⟨⟨a1, a2⟩, ⟨b1, b2⟩, -⟩ := h6 (i - 1) (by omega)
        exact ⟨iz (q (i - 1)), iteFE w (iteFE ux (chkE di (by omega) (by rw [di, iz_clampN (by omega), a1]))), iteFE w (iteFE ux (chkE di (by omega) (by rw [di, iz_clampN (by omega), b1])))⟩
    obtain ⟨f, f1, f2⟩ := fin
    rw [x_by_b43, m_by_b56, h4, h5]
    by_cases c : D ≤ i
    · exact ⟨f, iteTE (by rw [iz_le (by omega)]; omega) f1, iteTE (by rw [iz_le (by omega)]; omega) f2⟩
    have cc : ¬ iz D ≤ iz i := by rw [iz_le (by omega)]; omega
    obtain ⟨⟨a1, a2⟩, ⟨b1, b2⟩, -⟩ := h6 i (by omega)
    simp only [nmE]
    rw [iz_clampN (by omega), a2, b2, ni]
    by_cases w : l2 < iz (t i)
    · exact ⟨f, iteFE cc (chkE rfl (by omega) (iteTE w f1)), iteFE cc (chkE rfl (by omega) (iteTE w f2))⟩
    · obtain ⟨v, v1, v2⟩ := ih (i + 1) (by omega) (by omega)
      exact ⟨v, iteFE cc (chkE rfl (by omega) (iteFE w v1)), iteFE cc (chkE rfl (by omega) (iteFE w v2))⟩
theorem law_by {X : XS} {M : MS} (h : R X M) {N : Nat} (hN : 5000 ≤ N) (p w v : Int32) : same (x_by N X p w v) (m_by N M p w v) := by
  obtain ⟨z, hz, rfl⟩ := izE p
  obtain ⟨r, hr, rfl⟩ := izE w
  obtain ⟨f, hf, rfl⟩ := izE v
  unfold x_by m_by
  by_cases c : ¬ (0 ≤ z ∧ z ≤ 5)
  · exact ⟨_, _, _, bindE (shelfF hz c) (iteTE rfl rfl), bindE (shelfF hz c) (iteTE rfl rfl), h⟩
  replace c := Decidable.not_not.mp c
  have w1 := x_isMinute_iz hr
  have w2 := m_isMinute_iz hr
  by_cases cp : ¬ (0 ≤ r ∧ r ≤ 999)
  · rw [decide_eq_false cp] at w1 w2
    exact ⟨_, _, _, bindE (shelfT c) (iteFE b2iT (bindE w1 (iteTE rfl rfl))), bindE (shelfT c) (iteFE b2iT (bindE w2 (iteTE rfl rfl))), h⟩
  replace cp := Decidable.not_not.mp cp
  rw [decide_eq_true cp] at w1 w2
  have f1 : x_in (iz f) 0 1 = some (decide (0 ≤ f ∧ f ≤ 1)) := by rw [show (0 : Int32) = iz 0 from rfl, show (1 : Int32) = iz 1 from rfl, x_in_iz (by omega)]
  have f2 : m_within (iz f) 0 1 = some (decide (0 ≤ f ∧ f ≤ 1)) := f1
  by_cases cf : ¬ (0 ≤ f ∧ f ≤ 1)
  · rw [decide_eq_false cf] at f1 f2
    exact ⟨_, _, _, bindE (shelfT c) (iteFE b2iT (bindE w1 (iteFE b2iT (bindE f1 (iteTE rfl rfl))))), bindE (shelfT c) (iteFE b2iT (bindE w2 (iteFE b2iT (bindE f2 (iteTE rfl rfl))))), h⟩
  replace cf := Decidable.not_not.mp cf
  rw [decide_eq_true cf] at f1 f2
  obtain ⟨s, rfl⟩ : ∃ s : Nat, z = s := ⟨z.toNat, by omega⟩
  rcases lay_forth h hN (s := s) (by omega) with ⟨e, he, l1, l2⟩ | ⟨T, S, V, D, q, t, l1, l2, l3, l4, l5⟩
  · have ne : ¬ (0 : Int32) ≤ iz e := by rw [show (0 : Int32) = iz 0 from rfl, iz_le (by omega)]; omega
    exact ⟨_, _, _, bindE (shelfT c) (iteFE b2iT (bindE w1 (iteFE b2iT (bindE f1 (iteFE b2iT (b2E l1 (iteFE ne rfl))))))), bindE (shelfT c) (iteFE b2iT (bindE w2 (iteFE b2iT (bindE f2 (iteFE b2iT (bindE l2 (iteFE ne rfl))))))), h.scr ((xs.rf X).setI rfl _) (sm.rf M)⟩
  have D4 := l5.2.2.1
  obtain ⟨v, v1, v2⟩ := by_l l5 N (iz r) (iz f) N 0 (by omega) (by omega)
  exact ⟨v, T, V, bindE (shelfT c) (iteFE b2iT (bindE w1 (iteFE b2iT (bindE f1 (iteFE b2iT (b2E l1 (iteTE (by decide) v1))))))), bindE (shelfT c) (iteFE b2iT (bindE w2 (iteFE b2iT (bindE f2 (iteFE b2iT (bindE l2 (iteTE (by decide) (bindE l3 (bindE l4 v2))))))))), h.scr l5.1 l5.2.1⟩
