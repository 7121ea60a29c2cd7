/-! PLAIN LAW: success, bestMinute. Own text. -/
set_option maxRecDepth 100000
theorem mix_iz {p : Int} (hp : -2147483648 ≤ p ∧ p ≤ 2147483647) : (x_arePn (iz p) = some false ∧ m_isMix (iz p) = some false) ∨ (x_arePn (iz p) = some true ∧ m_isMix (iz p) = some true ∧ ∃ q k : Nat, iz p / 100 = iz q ∧ q ≤ 12 ∧ jrem (iz p) 100 = iz k ∧ 1 ≤ k ∧ k ≤ 99) := by
  unfold x_arePn m_isMix
  have z : (iz p < 0) ↔ p < 0 := by rw [show (0 : Int32) = iz 0 from rfl, iz_lt (by omega)]
  by_cases c : p < 0
  · exact Or.inl ⟨iteTE (z.mpr c) rfl, iteTE (z.mpr c) rfl⟩
  have cx : ¬ iz p < 0 := fun y => c (z.mp y)
  have dq : iz p / 100 = iz (p / 100) := by rw [show (100 : Int32) = iz 100 from rfl, iz_div (by omega)]
  have jq : jrem (iz p) 100 = iz (p % 100) := by rw [show (100 : Int32) = iz 100 from rfl, jrem_iz (by omega)]
  rw [dq, jq]
  by_cases d : 12 < p / 100
  · exact Or.inl ⟨iteFE cx (iteTE (by rw [show (12 : Int32) = iz 12 from rfl, iz_lt (by omega)]; exact d) rfl), iteFE cx (iteTE (by rw [show (13 : Int32) = iz 13 from rfl, iz_le (by omega)]; omega) rfl)⟩
  have d1 : ¬ (12 : Int32) < iz (p / 100) := by rw [show (12 : Int32) = iz 12 from rfl, iz_lt (by omega)]; exact d
  have d2 : ¬ (13 : Int32) ≤ iz (p / 100) := by rw [show (13 : Int32) = iz 13 from rfl, iz_le (by omega)]; omega
  have e : (iz (p % 100) ≤ 0) ↔ p % 100 ≤ 0 := by rw [show (0 : Int32) = iz 0 from rfl, iz_le (by omega)]
  by_cases f : p % 100 ≤ 0
  · exact Or.inl ⟨iteFE cx (iteFE d1 (iteTE (e.mpr f) rfl)), iteFE cx (iteFE d2 (iteTE (e.mpr f) rfl))⟩
  · exact Or.inr ⟨iteFE cx (iteFE d1 (iteFE (fun y => f (e.mp y)) rfl)), iteFE cx (iteFE d2 (iteFE (fun y => f (e.mp y)) rfl)), (p / 100).toNat, (p % 100).toNat, by congr 1; omega, by omega, by congr 1; omega, by omega, by omega⟩
theorem lay_both {X : XS} {M : MS} (h : R X M) {N : Nat} (hN : 20000 ≤ N) {s : Nat} (hs : s < 6) {p : Int} (hp : 0 ≤ p ∧ p < 9) : (∃ c : Int, (c = -11 ∨ c = -12) ∧ x_laySeenBoth N X (iz s) (iz p) = some (iz c, xI X 16 0) ∧ m_noRow M (iz s) 0 = some (iz c)) ∨ ∃ U S V f0 f1, x_laySeenBoth N X (iz s) (iz p) = some (0, U) ∧ m_noRow M (iz s) 0 = some 0 ∧ m_reads N M (iz s) = some S ∧ m_bothWays N S (iz p) = some V ∧ xs X U ∧ sm M V ∧ BW U V f0 f1 := by
  rcases lay_read h (N := N) (by omega) hs with ⟨e, he, l1, l2⟩ | ⟨T, S, L, g, l1, l2, l3, l4⟩
  · refine Or.inl ⟨e, he, ?_, l2⟩
    unfold x_laySeenBoth
    exact b2E l1 (iteFE (by rw [show (0 : Int32) = iz 0 from rfl, iz_le (by omega)]; omega) rfl)
  · obtain ⟨U, V, f0, f1, u1, u2, u3⟩ := bw_of h l4 hN hp
    refine Or.inr ⟨U, S, V, f0, f1, ?_, l2, l3, u2, u3⟩
    unfold x_laySeenBoth
    exact b2E l1 (iteTE (by decide) u1)
theorem law_success {X : XS} {M : MS} (h : R X M) {N : Nat} (hN : 20000 ≤ N) (p w v u : Int32) : same (x_success N X p w v u) (m_success N M p w v u) := by
  obtain ⟨z, hz, rfl⟩ := izE p
  obtain ⟨r, hr, rfl⟩ := izE w
  obtain ⟨f, hf, rfl⟩ := izE v
  obtain ⟨m, hm, rfl⟩ := izE u
  have n9 := h.1.1.2
  unfold x_success m_success
  by_cases c : ¬ (0 ≤ z ∧ z ≤ 5)
  · exact ⟨_, _, _, bindE (shelfF hz c) (iteTE rfl rfl), bindE (shelfF hz c) (iteTE rfl rfl), h⟩
  replace c := Decidable.not_not.mp c
  have w1 := x_isPost_iz h.1.1.1 h.1.1.2 hr
  have w2 := m_isPost_iz (M := M) h.1.1.2 hr
  by_cases cp : ¬ (0 ≤ r ∧ r < mi M 0)
  · rw [decide_eq_false cp] at w1 w2
    exact ⟨_, _, _, bindE (shelfT c) (iteFE b2iT (bindE w1 (iteTE rfl rfl))), bindE (shelfT c) (iteFE b2iT (bindE w2 (iteTE rfl rfl))), h⟩
  replace cp := Decidable.not_not.mp cp
  rw [decide_eq_true cp] at w1 w2
  have f1 : x_in (iz f) 0 599 = some (decide (0 ≤ f ∧ f ≤ 599)) := by rw [show (0 : Int32) = iz 0 from rfl, show (599 : Int32) = iz 599 from rfl, x_in_iz (by omega)]
  have f2 : m_within (iz f) 0 599 = some (decide (0 ≤ f ∧ f ≤ 599)) := f1
  by_cases cf : ¬ (0 ≤ f ∧ f ≤ 599)
  · rw [decide_eq_false cf] at f1 f2
    exact ⟨_, _, _, bindE (shelfT c) (iteFE b2iT (bindE w1 (iteFE b2iT (bindE f1 (iteTE rfl rfl))))), bindE (shelfT c) (iteFE b2iT (bindE w2 (iteFE b2iT (bindE f2 (iteTE rfl rfl))))), h⟩
  replace cf := Decidable.not_not.mp cf
  rw [decide_eq_true cf] at f1 f2
  rcases mix_iz hm with ⟨k1, k2⟩ | ⟨k1, k2, q, k, q1, q2, q3, q4, q5⟩
  · exact ⟨_, _, _, bindE (shelfT c) (iteFE b2iT (bindE w1 (iteFE b2iT (bindE f1 (iteFE b2iT (bindE k1 (iteTE rfl rfl))))))), bindE (shelfT c) (iteFE b2iT (bindE w2 (iteFE b2iT (bindE f2 (iteFE b2iT (bindE k2 (iteTE rfl rfl))))))), h⟩
  obtain ⟨s, rfl⟩ : ∃ s : Nat, z = s := ⟨z.toNat, by omega⟩
  obtain ⟨a, rfl⟩ : ∃ a : Nat, f = a := ⟨f.toNat, by omega⟩
  rcases lay_both h hN (s := s) (by omega) (p := r) (by omega) with ⟨e, he, l1, l2⟩ | ⟨U, S, V, g0, g1, l1, l2, l3, l4, l5, l6, l7⟩
  · have ne : ¬ (0 : Int32) ≤ iz e := by rw [show (0 : Int32) = iz 0 from rfl, iz_le (by omega)]; omega
    exact ⟨_, _, _, bindE (shelfT c) (iteFE b2iT (bindE w1 (iteFE b2iT (bindE f1 (iteFE b2iT (bindE k1 (iteFE b2iT (b2E l1 (iteFE ne rfl))))))))), bindE (shelfT c) (iteFE b2iT (bindE w2 (iteFE b2iT (bindE f2 (iteFE b2iT (bindE k2 (iteFE b2iT (bindE l2 (iteFE ne rfl))))))))), h.scr ((xs.rf X).setI rfl _) (sm.rf M)⟩
  obtain ⟨y, y1, y2, -⟩ := succ_iz l7 (N := N) (by omega) (a := a) (k := k) (by omega) (iz q)
  exact ⟨y, U, V, bindE (shelfT c) (iteFE b2iT (bindE w1 (iteFE b2iT (bindE f1 (iteFE b2iT (bindE k1 (iteFE b2iT (b2E l1 (iteTE (by decide) (bindE (by rw [q1, q3]; exact y1) rfl)))))))))), bindE (shelfT c) (iteFE b2iT (bindE w2 (iteFE b2iT (bindE f2 (iteFE b2iT (bindE k2 (iteFE b2iT (bindE l2 (iteTE (by decide) (bindE l3 (bindE l4 (bindE (by rw [q1, q3]; exact y2) rfl)))))))))))), h.scr l5 l6⟩
theorem best_l {U : XS} {V : MS} {f0 f1 : Nat → Bool} (hb : BW U V f0 f1) {N : Nat} (hN : 2000 ≤ N) {k : Nat} (hk : k ≤ 99) (l1 : Int32) : ∀ (n i b : Nat) (vb : Int32), i ≤ 600 → 600 - i < n → b < 600 → x_successAt N U (iz b) l1 (iz k) = some vb → ∃ r : Nat, r < 600 ∧ x_bestTime_b5 N U l1 (iz k) n (iz b) (iz i) = some (iz r) ∧ m_bestMinute_2_b8 N V l1 (iz k) n (iz b) vb (iz i) = some (iz r) := by
  intro n
  induction n with
  | zero => intro i b vb h1 h2; omega
  | succ n ih =>
    intro i b vb h1 h2 h3 hv
    rw [x_bestTime_b5, m_bestMinute_2_b8]
    by_cases c : i = 600
    · subst c
      exact ⟨b, h3, iteTE (by decide) rfl, iteTE (by decide) rfl⟩
    have cx : ¬ (599 : Int32) < iz i := by rw [show (599 : Int32) = iz 599 from rfl, iz_lt (by omega)]; omega
    have cm : ¬ (600 : Int32) ≤ iz i := by rw [show (600 : Int32) = iz 600 from rfl, iz_le (by omega)]; omega
    have ni : iz i + 1 = iz ((i + 1 : Nat) : Int) := by rw [show (1 : Int32) = iz 1 from rfl, iz_add]; rfl
    obtain ⟨v, v1, v2, -⟩ := succ_iz hb hN (a := i) (k := k) (by omega) l1
    by_cases w : v ≤ vb
    · obtain ⟨r, r1, r2, r3⟩ := ih (i + 1) b vb (by omega) (by omega) h3 hv
      exact ⟨r, r1, iteFE cx (bindE v1 (bindE hv (iteTE w (by rw [nmE, ni]; exact r2)))), iteFE cm (bindE v2 (iteFE (Int32.not_lt.mpr w) (by rw [nmE, ni]; exact r3)))⟩
    · obtain ⟨r, r1, r2, r3⟩ := ih (i + 1) i v (by omega) (by omega) (by omega) v1
      exact ⟨r, r1, iteFE cx (bindE v1 (bindE hv (iteFE w (by rw [nmE, ni]; exact r2)))), iteFE cm (bindE v2 (iteTE (Int32.not_le.mp w) (by rw [nmE, ni]; exact r3)))⟩
theorem best_iz {U : XS} {V : MS} {f0 f1 : Nat → Bool} (hb : BW U V f0 f1) {N : Nat} (hN : 2000 ≤ N) {q k : Nat} (hq : q ≤ 12) (hk : k ≤ 99) : ∃ r : Nat, r < 600 ∧ x_bestTime N U (iz q) (iz k) = some (iz r) ∧ m_bestMinute_2 N V (iz q) (iz k) = some (iz r) := by
  obtain ⟨n, rfl⟩ : ∃ n, N = n + 1 := ⟨N - 1, by omega⟩
  obtain ⟨v, v1, v2, v3⟩ := succ_iz hb hN (a := 0) (k := k) (by omega) (iz q)
  obtain ⟨r, r1, r2, -⟩ := best_l hb hN hk (iz q) (n + 1) 1 0 v (by omega) (by omega) (by omega) v1
  obtain ⟨r', r1', r2', r3'⟩ := best_l hb hN hk (iz q) n 1 0 v (by omega) (by omega) (by omega) v1
  have lt : (-1 : Int32) < v := by
    have e12 : (12 : Int32) - iz q = iz (12 - q) := by rw [show (12 : Int32) = iz 12 from rfl, iz_sub]
    rw [e12, show (0 : Int32) = iz 0 from rfl, iz_add, iz_add, iz_add] at v3
    rcases v3 with e | e | e | e <;> rw [e, show (-1 : Int32) = iz (-1) from rfl, iz_lt (by omega)] <;> omega
  have er : r = r' := by
    have mono : ∀ (m i b : Nat) (vb : Int32), i ≤ 600 → 600 - i < m → b < 600 → x_successAt (n + 1) U (iz b) (iz q) (iz k) = some vb → x_bestTime_b5 (n + 1) U (iz q) (iz k) (m + 1) (iz b) (iz i) = x_bestTime_b5 (n + 1) U (iz q) (iz k) m (iz b) (iz i) := by
      intro m
      induction m with
      | zero => intro i b vb h1 h2; omega
      | succ m ih =>
        intro i b vb h1 h2 h3 hv
        rw [x_bestTime_b5]
        conv => rhs; rw [x_bestTime_b5]
        by_cases c : i = 600
        · subst c
          rw [if_pos (show (599 : Int32) < iz ((600 : Nat) : Int) by decide), if_pos (show (599 : Int32) < iz ((600 : Nat) : Int) by decide)]
        have cx : ¬ (599 : Int32) < iz i := by rw [show (599 : Int32) = iz 599 from rfl, iz_lt (by omega)]; omega
        have ni : iz i + 1 = iz ((i + 1 : Nat) : Int) := by rw [show (1 : Int32) = iz 1 from rfl, iz_add]; rfl
        obtain ⟨y, y1, -⟩ := succ_iz hb hN (a := i) (k := k) (by omega) (iz q)
        rw [if_neg cx, if_neg cx, y1, hv]
        simp only [Option.bind_some, nmE]
        rw [ni, ih (i + 1) b vb (by omega) (by omega) h3 hv, ih (i + 1) i y (by omega) (by omega) (by omega) y1]
    have := mono n 1 0 v (by omega) (by omega) (by omega) v1
    rw [r2, r2'] at this
    have := Option.some.inj this
    rw [iz_eq (by omega)] at this
    omega
  subst er
  refine ⟨r, r1, r2, ?_⟩
  unfold m_bestMinute_2
  rw [m_bestMinute_2_b8]
  exact iteFE (by decide) (bindE v2 (iteTE lt r3'))
