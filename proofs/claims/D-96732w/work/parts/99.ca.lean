/-! PLAIN LAW: the seen minutes of the reference, both ways. Own text. -/
set_option maxRecDepth 100000
theorem VW.set50 {A M S : MS} {D : Nat} {q t : Nat → Int} (h : VW A M S D q t) (j : Nat) (v : Int32) : VW (sA A 50 j v) M (sA S 50 j v) D q t := by
  obtain ⟨h1, h2, h3, h4⟩ := h
  refine ⟨h1.setA rfl _ _, ⟨h2.1, h2.2.1, by funext i; rw [sA21, sA21, if_neg (by decide), if_neg (by decide), h2.2.2.1], by funext i; rw [sA21, sA21, if_pos rfl, if_pos rfl, h2.2.2.2]⟩, h3, fun i hi => ?_⟩
  rw [sA21, if_neg (by decide), sA21, if_neg (by decide)]
  exact h4 i hi
theorem looks_of {X T : XS} {M S : MS} {L : Nat} {g : Nat → Int} (h : R X M) (hr : Rnd X M T S L g) {N : Nat} (hN : 20000 ≤ N) : ∃ V D, m_looks N S = some V ∧ Rnd X M T V L g ∧ (if L = 0 then D = 0 else Dn M (qf g L 0) 4000 D) ∧ VW V M V D (qf g L 0) (tm M (qf g L 0)) ∧ (∀ b u : Nat, b < 9 → u < 2000 → LD D (qf g L 0) (tm M (qf g L 0)) b u (ma V 49 (2000 * b + u))) ∧ V.2.1 50 = S.2.1 50 := by
  obtain ⟨V, D, b1, b2, b3, b4, b5, b6, b7, b8⟩ := walks_iz h hr (N := N) (by omega) (lim := 4000) (by omega)
  have n9 := h.1.1.2
  have vw : VW V M V D (qf g L 0) (tm M (qf g L 0)) := by
    by_cases c : L = 0
    · rw [if_pos c] at b7
      subst b7
      exact ⟨b2, ⟨by omega, rfl, rfl, rfl⟩, b5, fun j hj => absurd hj (by omega)⟩
    · rw [if_neg c] at b7
      have gz := qf_R hr (by omega) 0
      refine ⟨b2, ⟨b7.1, rfl, rfl, rfl⟩, b5, fun j hj => ⟨(b6 j hj).1, (b6 j hj).2, ?_, (tm_R h.1 gz j).1, b7.2.1 j hj⟩⟩
      have := gz j
      omega
  obtain ⟨W, k1, k2, k3⟩ := looks0 (A := V) (M := M) hN N 0 V (by omega) (by omega) vw (fun j hj => absurd hj (by omega))
  obtain ⟨w1, ⟨w2, w3, w4, w7⟩, w5, w6⟩ := k2
  refine ⟨W, D, bindE b1 k1, ⟨hr.1, w1, hr.2.2.1, hr.2.2.2.1, by rw [w3, b3]; exact hr.2.2.2.2.1, fun j hj => ?_⟩, b7, ⟨w1, ⟨w2, rfl, rfl, rfl⟩, w5, w6⟩, k3, by rw [w7]; exact b8.1 50 (by decide) (by decide)⟩
  rw [w4, b4]
  exact hr.2.2.2.2.2 j hj
theorem turns_l {M : MS} {L : Nat} (hL : L ≤ 20) (N : Nat) (S0 : MS) : ∀ (n i : Nat) (S : MS), 2 * i ≤ L → 20 - i < n → S.1 = S0.1 → S.2.2 = S0.2.2 → (∀ r, r ≠ 45 → S.2.1 r = S0.2.1 r) → (∀ j, j < L → S.2.1 45 j = if j < i ∨ L - 1 - i < j then S0.2.1 45 (L - 1 - j) else S0.2.1 45 j) → ∃ S', m_turns_b9 N n S (iz i) (iz ((L : Int) - 1 - i)) = some S' ∧ S'.1 = S0.1 ∧ S'.2.2 = S0.2.2 ∧ (∀ r, r ≠ 45 → S'.2.1 r = S0.2.1 r) ∧ ∀ j, j < L → S'.2.1 45 j = S0.2.1 45 (L - 1 - j) := by
  intro n
  induction n with
  | zero => intro i S h1 h2; omega
  | succ n ih =>
    intro i S h1 h2 e1 e2 e3 e4
    rw [m_turns_b9]
    by_cases c : (L : Int) - 1 - i ≤ i
    · refine ⟨S, iteTE ((iz_le (by omega)).mpr c) rfl, e1, e2, e3, fun j hj => ?_⟩
      rw [e4 j hj]
      by_cases d : j < i ∨ L - 1 - i < j
      · rw [if_pos d]
      · rw [if_neg d, show L - 1 - j = j by omega]
    have ni : iz i + 1 = iz ((i + 1 : Nat) : Int) := by rw [show (1 : Int32) = iz 1 from rfl, iz_add]; rfl
    have nl : iz ((L : Int) - 1 - i) + -1 = iz ((L : Int) - 1 - ((i + 1 : Nat) : Int)) := by rw [show (-1 : Int32) = iz (-1) from rfl, iz_add]; congr 1; omega
    have li : iz ((L : Int) - 1 - i) = iz ((L - 1 - i : Nat) : Int) := by congr 1; omega
    have ei : S.2.1 45 i = S0.2.1 45 i := by rw [e4 i (by omega), if_neg (by omega)]
    have el : S.2.1 45 (L - 1 - i) = S0.2.1 45 (L - 1 - i) := by rw [e4 (L - 1 - i) (by omega), if_neg (by omega)]
    obtain ⟨S', g1, g⟩ := ih (i + 1) (sA (sA S 45 i (S.2.1 45 (L - 1 - i))) 45 (L - 1 - i) (S.2.1 45 i)) (by omega) (by omega) e1 e2 (fun r hr => by
      rw [← e3 r hr]
      funext j
      rw [sA21, if_neg hr, sA21, if_neg hr]) (fun j hj => by
      rw [sA21, if_pos rfl, sA21, if_pos rfl, ei, el]
      by_cases d : j = L - 1 - i
      · rw [if_pos d, if_pos (by omega), show L - 1 - j = i by omega]
      · rw [if_neg d]
        by_cases f : j = i
        · rw [if_pos f, if_pos (by omega), f]
        · rw [if_neg f, e4 j hj]
          by_cases k : j < i ∨ L - 1 - i < j
          · rw [if_pos k, if_pos (by omega)]
          · rw [if_neg k, if_neg (by omega)])
    refine ⟨S', iteFE (fun z => c ((iz_le (by omega)).mp z)) (chkE rfl (by omega) ?_), g⟩
    simp only [nmE]
    rw [nl, li, ni, chk_iz (by omega), chk_iz (by omega), chk_iz (by omega), iz_clampN (n := i) (by omega), iz_clampN (n := L - 1 - i) (by omega)]
    exact g1
theorem turns_iz {X T : XS} {M S : MS} {L : Nat} {g : Nat → Int} (hr : Rnd X M T S L g) {N : Nat} (hN : 100 ≤ N) : ∃ S' T', m_turns N S = some S' ∧ Rnd X M T' S' L (fun j => g (L - 1 - j)) ∧ S'.1 = S.1 ∧ S'.2.2 = S.2.2 ∧ ∀ r, r ≠ 45 → S'.2.1 r = S.2.1 r := by
  obtain ⟨h1, h2, h3, h4, h5, h6⟩ := hr
  obtain ⟨S', a1, a2, a3, a4, a5⟩ := turns_l (M := M) h3 N S N 0 S (by omega) (by omega) rfl rfl (fun _ _ => rfl) (fun j hj => by rw [if_neg (by omega)])
  refine ⟨S', (T.1, fun k j => if k = 13 then iz (g (L - 1 - j)) else T.2.1 k j, T.2.2), ?_, ⟨⟨h1.1, h1.2.1, fun k hk => ?_⟩, ⟨a3.trans h2.1, fun k hk => (congrFun a2 k).trans (h2.2.1 k hk), fun k hk => (a4 k (fun z => by rw [z] at hk; cases hk)).trans (h2.2.2 k hk)⟩, h3, h4, (congrFun a2 44).trans h5, fun j hj => ⟨rfl, ?_, ?_⟩⟩, a2, a3, a4⟩
  · unfold m_turns
    rw [nmE, h5, show iz (L : Int) - 1 = iz ((L : Int) - 1 - ((0 : Nat) : Int)) by rw [show (1 : Int32) = iz 1 from rfl, iz_sub]; congr 1; omega]
    exact a1
  · rw [← h1.2.2 k hk]
    funext j
    show (if k = 13 then _ else _) = _
    rw [if_neg (fun z => by rw [z] at hk; cases hk)]
  · rw [a5 j hj]
    exact (h6 (L - 1 - j) (by omega)).2.1
  · exact (h6 (L - 1 - j) (by omega)).2.2
def seenB (D : Nat) (q t : Nat → Int) (vis p : Int) (w : Nat) : Bool := (List.range D).any fun j => decide (q j = p ∧ t j ≤ w ∧ (w : Int) < t j + vis)
theorem seenB_iff {D : Nat} {q t : Nat → Int} {vis p : Int} {w : Nat} : seenB D q t vis p w = true ↔ Seen D q t vis p w := by
  unfold seenB Seen
  rw [List.any_eq_true]
  constructor
  · intro ⟨j, j1, j2⟩
    exact ⟨j, List.mem_range.mp j1, of_decide_eq_true j2⟩
  · intro ⟨j, j1, j2⟩
    exact ⟨j, List.mem_range.mpr j1, decide_eq_true j2⟩
theorem both1 {X : XS} {M : MS} {D : Nat} {q t : Nat → Int} (hR : R X M) (N : Nat) {p : Int} (hp : 0 ≤ p ∧ p < 9) : ∀ (n w : Nat) (A S : MS), w ≤ 2000 → 2000 - w < n → VW A M S D q t → (∀ b u : Nat, b < 9 → u < 2000 → LD D q t b u (ma S 49 (2000 * b + u))) → (∀ u, u < w → S.2.1 50 u = b2i (seenB D q t (max 1 (ma M 5 3)) p u)) → ∃ S', m_bothWays_b6 N (iz p) n S (iz w) = ((m_turns N S').bind fun T3 => (m_looks N T3).bind fun T6 => m_bothWays_b41 N (iz p) N T6 0) ∧ (sm M S' ∧ S'.1 = A.1 ∧ S'.2.1 45 = A.2.1 45) ∧ ∀ u, u < 2000 → S'.2.1 50 u = b2i (seenB D q t (max 1 (ma M 5 3)) p u) := by
  intro n
  induction n with
  | zero => intro w A S h1 h2; omega
  | succ n ih =>
    intro w A S h1 h2 hv hl hu
    rw [m_bothWays_b6]
    by_cases c : w = 2000
    · subst c
      exact ⟨S, iteTE (by decide) rfl, ⟨hv.1, hv.2.1.2.1, hv.2.1.2.2.1⟩, hu⟩
    have nw : iz w + 1 = iz ((w + 1 : Nat) : Int) := by rw [show (1 : Int32) = iz 1 from rfl, iz_add]; rfl
    obtain ⟨b, b1, b2⟩ := m_seen (T := X) hR hv hl hp (w := w) (by omega)
    have eb : b = seenB D q t (max 1 (ma M 5 3)) p w := by
      rw [Bool.eq_iff_iff, seenB_iff]; exact b2
    obtain ⟨S', g1, g3, g2⟩ := ih (w + 1) (sA A 50 w (b2i b)) (sA S 50 w (b2i b)) (by omega) (by omega) (hv.set50 _ _) (fun b u hb hu => by
      rw [show ma (sA S 50 w (b2i _)) 49 (2000 * b + u) = ma S 49 (2000 * b + u) by unfold ma; rw [sA21, if_neg (by decide)]]
      exact hl b u hb hu) (fun u hu' => by
      rw [sA21, if_pos rfl]
      by_cases z : u = w
      · rw [if_pos z, eb, z]
      · rw [if_neg z]; exact hu u (by omega))
    refine ⟨S', iteFE (by rw [show (2000 : Int32) = iz 2000 from rfl, iz_le (by omega)]; omega) (bindE b1 (chkE rfl (by omega) ?_)), ⟨g3.1, g3.2.1, g3.2.2.trans (by funext i; rw [sA21, if_neg (by decide)])⟩, g2⟩
    rw [nmE, nmE, nw, iz_clampN (by omega)]
    exact g1
theorem Rnd.to {X T : XS} {M S S' : MS} {L : Nat} {g : Nat → Int} (h : Rnd X M T S L g) (h1 : sm M S') (h2 : S'.1 44 = S.1 44) (h3 : S'.2.1 45 = S.2.1 45) : Rnd X M T S' L g := ⟨h.1, h1, h.2.2.1, h.2.2.2.1, h2.trans h.2.2.2.2.1, fun j hj => by rw [h3]; exact h.2.2.2.2.2 j hj⟩
theorem both2 {X : XS} {M : MS} {D : Nat} {q t : Nat → Int} (hR : R X M) (N : Nat) {p : Int} (hp : 0 ≤ p ∧ p < 9) (f0 : Nat → Bool) : ∀ (n w : Nat) (A S : MS), w ≤ 2000 → 2000 - w < n → VW A M S D q t → (∀ b u : Nat, b < 9 → u < 2000 → LD D q t b u (ma S 49 (2000 * b + u))) → (∀ u, u < 2000 → S.2.1 50 u = b2i (f0 u)) → (∀ u, u < w → S.2.1 50 (2000 + u) = b2i (seenB D q t (max 1 (ma M 5 3)) p u)) → ∃ S', m_bothWays_b41 N (iz p) n S (iz w) = ((m_turns N S').bind fun T3 => some T3) ∧ (sm M S' ∧ S'.1 = A.1 ∧ S'.2.1 45 = A.2.1 45) ∧ (∀ u, u < 2000 → S'.2.1 50 u = b2i (f0 u)) ∧ ∀ u, u < 2000 → S'.2.1 50 (2000 + u) = b2i (seenB D q t (max 1 (ma M 5 3)) p u) := by
  intro n
  induction n with
  | zero => intro w A S h1 h2; omega
  | succ n ih =>
    intro w A S h1 h2 hv hl h0 hu
    rw [m_bothWays_b41]
    by_cases c : w = 2000
    · subst c
      exact ⟨S, iteTE (by decide) rfl, ⟨hv.1, hv.2.1.2.1, hv.2.1.2.2.1⟩, h0, hu⟩
    have nw : iz w + 1 = iz ((w + 1 : Nat) : Int) := by rw [show (1 : Int32) = iz 1 from rfl, iz_add]; rfl
    have n2 : 2000 + iz w = iz ((2000 + w : Nat) : Int) := by rw [show (2000 : Int32) = iz 2000 from rfl, iz_add]; rfl
    obtain ⟨b, b1, b2⟩ := m_seen (T := X) hR hv hl hp (w := w) (by omega)
    have eb : b = seenB D q t (max 1 (ma M 5 3)) p w := by
      rw [Bool.eq_iff_iff, seenB_iff]; exact b2
    obtain ⟨S', g1, g3, g2⟩ := ih (w + 1) (sA A 50 (2000 + w) (b2i b)) (sA S 50 (2000 + w) (b2i b)) (by omega) (by omega) (hv.set50 _ _) (fun b u hb hu => by
      rw [show ma (sA S 50 (2000 + w) (b2i _)) 49 (2000 * b + u) = ma S 49 (2000 * b + u) by unfold ma; rw [sA21, if_neg (by decide)]]
      exact hl b u hb hu) (fun u hu' => by
      rw [sA21, if_pos rfl, if_neg (by omega)]; exact h0 u hu') (fun u hu' => by
      rw [sA21, if_pos rfl]
      by_cases z : u = w
      · rw [if_pos (by omega), eb, z]
      · rw [if_neg (by omega)]; exact hu u (by omega))
    refine ⟨S', iteFE (by rw [show (2000 : Int32) = iz 2000 from rfl, iz_le (by omega)]; omega) (bindE b1 (chkE n2 (by omega) ?_)), ⟨g3.1, g3.2.1, g3.2.2.trans (by funext i; rw [sA21, if_neg (by decide)])⟩, g2⟩
    rw [nmE, nmE, nw, n2, iz_clampN (by omega)]
    exact g1
theorem qf_back {g : Nat → Int} {L : Nat} : qf (fun j => g (L - 1 - j)) L 0 = qf g L 1 := by
  funext k
  unfold qf
  rw [if_pos rfl, if_neg (by decide)]
theorem both_iz {X T : XS} {M S : MS} {L : Nat} {g : Nat → Int} (h : R X M) (hr : Rnd X M T S L g) {N : Nat} (hN : 20000 ≤ N) {p : Int} (hp : 0 ≤ p ∧ p < 9) : ∃ S' D0 D1, m_bothWays N S (iz p) = some S' ∧ sm M S' ∧ (if L = 0 then D0 = 0 else Dn M (qf g L 0) 4000 D0) ∧ (if L = 0 then D1 = 0 else Dn M (qf g L 1) 4000 D1) ∧ ∀ u, u < 2000 → S'.2.1 50 u = b2i (seenB D0 (qf g L 0) (tm M (qf g L 0)) (max 1 (ma M 5 3)) p u) ∧ S'.2.1 50 (2000 + u) = b2i (seenB D1 (qf g L 1) (tm M (qf g L 1)) (max 1 (ma M 5 3)) p u) := by
  obtain ⟨V, D0, a1, a2, a3, a4, a5, a6⟩ := looks_of h hr hN
  obtain ⟨S1, b1, ⟨b2, b3, b4⟩, b5⟩ := both1 h N hp N 0 V V (by omega) (by omega) a4 a5 (fun u hu => absurd hu (by omega))
  have r1 := a2.to b2 (congrFun b3 44) b4
  obtain ⟨S2, T2, c1, c2, c3, c4, c5⟩ := turns_iz r1 (N := N) (by omega)
  obtain ⟨V2, D1, d1, d2, d3, d4, d5, d6⟩ := looks_of h c2 hN
  rw [qf_back] at d3 d4 d5
  have e50 : V2.2.1 50 = S1.2.1 50 := by rw [d6, c5 50 (by decide)]
  obtain ⟨S3, e1, ⟨e2, e3, e4⟩, e5, e6⟩ := both2 h N hp (seenB D0 (qf g L 0) (tm M (qf g L 0)) (max 1 (ma M 5 3)) p) N 0 V2 V2 (by omega) (by omega) d4 d5 (fun u hu => by rw [e50]; exact b5 u hu) (fun u hu => absurd hu (by omega))
  have r3 := d2.to e2 (congrFun e3 44) e4
  obtain ⟨S4, T4, f1, f2, f3, f4, f5⟩ := turns_iz r3 (N := N) (by omega)
  refine ⟨S4, D0, D1, ?_, f2.2.1, a3, d3, fun u hu => ⟨by rw [f5 50 (by decide)]; exact e5 u hu, by rw [f5 50 (by decide)]; exact e6 u hu⟩⟩
  unfold m_bothWays
  refine bindE a1 (b1.trans (bindE c1 (bindE d1 (e1.trans (bindE f1 rfl)))))
