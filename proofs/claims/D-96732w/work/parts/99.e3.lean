/-! PLAIN LAW: lost. Own text. -/
set_option maxRecDepth 100000
theorem lay_forthL {X : XS} {M : MS} (h : R X M) {N : Nat} (hN : 5000 ≤ N) {s : Nat} (hs : s < 6) : (∃ c : Int, (c = -11 ∨ c = -12) ∧ x_layForth N X (iz s) = some (iz c, xI X 16 0) ∧ m_noRow M (iz s) 0 = some (iz c)) ∨ ∃ (T : XS) (S V : MS) (D : Nat) (q t : Nat → Int) (L : Nat), x_layForth N X (iz s) = some (0, T) ∧ m_noRow M (iz s) 0 = some 0 ∧ m_reads N M (iz s) = some S ∧ m_walks N S 4000 = some V ∧ FW X M T V D q t ∧ T.1 16 = iz L ∧ V.1 44 = iz L := by
  rcases lay_read h (N := N) (by omega) hs with ⟨e, he, l1, l2⟩ | ⟨T, S, L, g, l1, l2, l3, l4⟩
  · refine Or.inl ⟨e, he, ?_, l2⟩
    unfold x_layForth
    exact b2E l1 (iteFE (by rw [show (0 : Int32) = iz 0 from rfl, iz_eq (by omega)]; omega) rfl)
  · obtain ⟨U, V, D, u1, u2, u3, u4, u5, u6, u7⟩ := forth_iz h l4 hN
    refine Or.inr ⟨U, S, V, D, _, _, L, ?_, l2, l3, u2, u3, u4.trans l4.2.2.2.1, u6.trans l4.2.2.2.2.1⟩
    unfold x_layForth
    exact b2E l1 (iteTE rfl (bindE u1 rfl))
theorem FW.k49 {X T T' : XS} {M S : MS} {D : Nat} {q t : Nat → Int} (h : FW X M T S D q t) (k : K49 T T') : FW X M T' S D q t := h.x (k.xs h.1) (by rw [k.1]) (k.2.2 14 (by decide)) (k.2.2 15 (by decide))
theorem VW.k23 {A M S S' : MS} {D : Nat} {q t : Nat → Int} (h : VW A M S D q t) (k : K23 S S') : VW A M S' D q t := by
  obtain ⟨h1, h2, h3, h4⟩ := h
  exact ⟨h1.tr k.sm, ⟨h2.1, k.1.trans h2.2.1, (k.2.2 45 (by decide) (by decide)).trans h2.2.2.1, (k.2.2 50 (by decide) (by decide)).trans h2.2.2.2⟩, by rw [k.1]; exact h3, fun j hj => by rw [k.2.2 48 (by decide) (by decide), k.2.2 47 (by decide) (by decide)]; exact h4 j hj⟩
/-- dents met up to a minute: how many, the last, whether there is one -/
def Met3 (D : Nat) (q t : Nat → Int) (p w : Int) (k : Nat) (last l6 : Int) : Prop := k ≤ D ∧ (∀ j, j < k → t j ≤ w) ∧ ((last = -1 ∧ l6 = 0 ∧ ∀ j, j < k → q j ≠ p) ∨ (l6 = 1 ∧ ∃ j, j < k ∧ q j = p ∧ last = t j ∧ ∀ i, i < k → q i = p → t i ≤ last))
theorem met_l {X T : XS} {M S : MS} {D : Nat} {q t : Nat → Int} (hf : FW X M T S D q t) (N : Nat) {p : Int} (hp : 0 ≤ p ∧ p < 9) {w : Int} (hw : 0 ≤ w ∧ w < 2000) (l2 l3 l4 l8 : Int32) (k25 : XS → Int32 → Int32 → Int32 → Int32 → Int32 → Option (Int32 × XS)) : ∀ (n k : Nat) (last l6 : Int), D - k < n → Met3 D q t p w k last l6 → ∃ (k' : Nat) (last' l6' : Int), x_lostAt_b31 N (iz p) l2 l3 l4 l8 (iz w) k25 n T (iz last) (iz l6) (iz k) = x_lostAt_b84 N (iz p) l2 l3 l4 (iz last') (iz l6') (iz k') l8 (iz w) k25 T ∧ Met3 D q t p w k' last' l6' ∧ (k' < D → w < t k') := by
  obtain ⟨h1, h2, h3, h4, h5, h6, h7⟩ := hf
  intro n
  induction n with
  | zero => intro k last l6 a; omega
  | succ n ih =>
    intro k last l6 a hk
    obtain ⟨k1, k2, k3⟩ := id hk
    rw [x_lostAt_b31, h4]
    by_cases c : D ≤ k
    · exact ⟨k, last, l6, iteTE (by rw [iz_le (by omega)]; omega) rfl, hk, fun z => absurd z (by omega)⟩
    have cc : ¬ iz D ≤ iz k := by rw [iz_le (by omega)]; omega
    have nk : iz k + 1 = iz ((k + 1 : Nat) : Int) := by rw [show (1 : Int32) = iz 1 from rfl, iz_add]; rfl
    obtain ⟨⟨a1, a2⟩, -, a3, a4⟩ := h6 k (by omega)
    have n9 := mi_R M 0
    have c14 : T.2.1 14 (iz k).toNatClampNeg = iz (q k) := by rw [iz_clampN (by omega), a1]
    have c15 : T.2.1 15 (iz k).toNatClampNeg = iz (t k) := by rw [iz_clampN (by omega), a2]
    by_cases d : w < t k
    · exact ⟨k, last, l6, iteFE cc (chkE rfl (by omega) (iteTE (by rw [c15]; exact (iz_lt (by omega)).mpr d) rfl)), hk, fun _ => d⟩
    have dd : ¬ iz w < T.2.1 15 (iz k).toNatClampNeg := by rw [c15]; exact fun z => d ((iz_lt (by omega)).mp z)
    have st : ∀ j, j < k + 1 → t j ≤ w := fun j hj => by
      by_cases z : j = k
      · rw [z]; omega
      · exact k2 j (by omega)
    by_cases e : q k = p
    · obtain ⟨k', last', l6', g1, g2⟩ := ih (k + 1) (t k) 1 (by omega) ⟨by omega, st, Or.inr ⟨rfl, k, by omega, e, rfl, fun i hi _ => h7 i k (by omega) (by omega)⟩⟩
      refine ⟨k', last', l6', iteFE cc (chkE rfl (by omega) (iteFE dd (chkE rfl (by omega) (iteTE (by rw [c14, e]) (chkE rfl (by omega) ?_))))), g2⟩
      rw [nmE, nmE, c15, nk]
      exact g1
    · obtain ⟨k', last', l6', g1, g2⟩ := ih (k + 1) last l6 (by clear k3 hk; omega) ⟨by clear k3 hk; omega, st, by
        rcases k3 with ⟨e1, e2, e3⟩ | ⟨e1, j, j1, j2, j3, j4⟩
        · refine Or.inl ⟨e1, e2, fun j hj => ?_⟩
          by_cases z : j = k
          · rw [z]; exact e
          · exact e3 j (by omega)
        · refine Or.inr ⟨e1, j, by omega, j2, j3, fun i hi hq => ?_⟩
          by_cases z : i = k
          · subst z; exact absurd hq e
          · exact j4 i (by omega) hq⟩
      refine ⟨k', last', l6', iteFE cc (chkE rfl (by omega) (iteFE dd (chkE rfl (by omega) (iteFE (by rw [c14, iz_eq (by omega)]; exact e) ?_)))), g2⟩
      rw [nmE, nk]
      exact g1
theorem Met3.ld {D : Nat} {q t : Nat → Int} (hs : ∀ i j, i ≤ j → j < D → t i ≤ t j) {p w : Int} {k : Nat} {last l6 : Int} (h : Met3 D q t p w k last l6) (hk : k < D → w < t k) : LD D q t p w last := by
  obtain ⟨k1, k2, k3⟩ := h
  have far : ∀ j, j < D → k ≤ j → w < t j := fun j h1 h2 => by
    have := hk (by omega)
    have := hs k j h2 h1
    omega
  rcases k3 with ⟨e1, e2, e3⟩ | ⟨e1, j, j1, j2, j3, j4⟩
  · refine Or.inl ⟨e1, fun j hj hq => ?_⟩
    by_cases z : j < k
    · exact absurd hq (e3 j z)
    · exact far j hj (by omega)
  · refine Or.inr ⟨j, by omega, j2, j3, k2 j j1, fun i hi hq hw => ?_⟩
    by_cases z : i < k
    · exact j4 i z hq
    · have := far i hi (by omega); omega
/-- a post's minutes, in both -/
theorem lostAt_l {X : XS} {A M : MS} {Vf : MS} {D : Nat} {q t : Nat → Int} (h : R X M) {N : Nat} (hN : 20000 ≤ N) {p : Nat} (hp : (p : Int) < mi M 0) {L : Nat} {post a b : Int} (hpo : post = -1 ∨ post = p) (hab : 0 ≤ a ∧ a ≤ b ∧ b ≤ 999) (k75 : MS → Int32 → Int32 → Option (Int32 × MS)) : ∀ (n : Nat) (w : Nat) (T : XS) (S : MS) (k : Nat) (last l6 s1 s2 : Int) (n' : Nat), (w : Int) ≤ b + 1 → b + 1 - w < n → b + 1 - max (w : Int) a < n' → FW X M T Vf D q t → VW A M S D q t → (∀ b u : Nat, b < 9 → u < 2000 → LD D q t b u (ma S 49 (2000 * b + u))) → (T.1 16 = iz L ∧ S.1 44 = iz L) → Met3 D q t p w k last l6 → ∃ (d : Int) (T' : XS) (S' : MS), x_lostAt_b25 N (iz p) (iz a) (iz b) (iz (max 1 (ma M 5 3))) n T (iz last) (iz l6) (iz k) (iz s1) (iz w) = some (iz (s1 + d), T') ∧ m_lost_b87 N (iz post) (iz a) (iz b) (iz p) k75 n' S (iz s2) (iz (max (w : Int) a)) = k75 S' (iz (s2 + d)) (iz ((p + 1 : Nat) : Int)) ∧ FW X M T' Vf D q t ∧ VW A M S' D q t ∧ (∀ b u : Nat, b < 9 → u < 2000 → LD D q t b u (ma S' 49 (2000 * b + u))) ∧ (T'.1 16 = iz L ∧ S'.1 44 = iz L) := by
  have n9 := h.1.1.2
  have hst := h.1.2.2.1.2.2.2
  intro n
  induction n with
  | zero => intro w T S k last l6 s1 s2 n' a1 a2; omega
  | succ n ih =>
    intro w T S k last l6 s1 s2 n' hw hn hn' hf hv hl hL hk
    have D4 := hf.2.2.1
    obtain ⟨n', rfl⟩ : ∃ m, n' = m + 1 := ⟨n' - 1, by omega⟩
    have np : iz p + 1 = iz ((p + 1 : Nat) : Int) := by rw [show (1 : Int32) = iz 1 from rfl, iz_add]; rfl
    have nw : iz w + 1 = iz ((w + 1 : Nat) : Int) := by rw [show (1 : Int32) = iz 1 from rfl, iz_add]; rfl
    rw [x_lostAt_b25]
    by_cases c : b < w
    · refine ⟨0, T, S, iteTE ((iz_lt (by omega)).mpr c) (by rw [Int.add_zero]), ?_, hf, hv, hl, hL⟩
      rw [m_lost_b87, show max (w : Int) a = w by omega]
      refine iteTE ((iz_lt (by omega)).mpr c) ?_
      rw [nmE, np, Int.add_zero]
    have cc : ¬ iz b < iz w := fun z => c ((iz_lt (by omega)).mp z)
    obtain ⟨k', last', l6', g1, g2, g3⟩ := met_l hf N (p := p) (by omega) (w := w) (by omega) (iz a) (iz b) (iz (max 1 (ma M 5 3))) (iz s1) (fun t y5 y6 y7 y8 y9 => x_lostAt_b25 N (iz p) (iz a) (iz b) (iz (max 1 (ma M 5 3))) n t y5 y6 y7 y8 y9) N k last l6 (by omega) hk
    have ld := g2.ld hf.2.2.2.2.2.2 g3
    have g2' : Met3 D q t p ((w + 1 : Nat) : Int) k' last' l6' := ⟨g2.1, fun j hj => by have := g2.2.1 j hj; omega, g2.2.2⟩
    have lR : -1 ≤ last' ∧ last' ≤ w := by
      rcases ld with ⟨e, _⟩ | ⟨j, j1, j2, j3, j4, _⟩
      · omega
      · have := (hf.2.2.2.2.2.1 j j1).2.2.2; omega
    have l60 : (iz l6' = 0) ↔ last' = -1 := by
      rcases g2.2.2 with ⟨e1, e2, _⟩ | ⟨e1, j, j1, j2, j3, _⟩
      · rw [e2]; exact ⟨fun _ => e1, fun _ => rfl⟩
      · rw [e1]
        have := (hf.2.2.2.2.2.1 j (by have := g2.1; omega)).2.2.2
        exact ⟨fun z => absurd z (by decide), fun z => by omega⟩
    by_cases wa : (w : Int) < a
    · obtain ⟨d, T', S', u1, u2, u3⟩ := ih (w + 1) T S k' last' l6' s1 s2 (n' + 1) (by omega) (by omega) (by omega) hf hv hl hL g2'
      refine ⟨d, T', S', iteFE cc (g1.trans ?_), ?_, u3⟩
      · unfold x_lostAt_b84
        refine iteTE ((iz_lt (by omega)).mpr wa) ?_
        rw [nmE, nw]
        exact u1
      · rw [show max (w : Int) a = max ((w + 1 : Nat) : Int) a by omega]
        exact u2
    have wax : ¬ iz w < iz a := fun z => wa ((iz_lt (by omega)).mp z)
    have mx : max (w : Int) a = w := by omega
    have mx1 : max ((w + 1 : Nat) : Int) a = ((w + 1 : Nat) : Int) := by omega
    -- the reference's step
    have refs : ∀ r : Option (Int32 × MS), m_lost_b105 N (iz post) (iz a) (iz b) (iz s2) (iz p) (iz w) (fun t y6 y8 => m_lost_b87 N (iz post) (iz a) (iz b) (iz p) k75 n' t y6 y8) k75 S = r → m_lost_b87 N (iz post) (iz a) (iz b) (iz p) k75 (n' + 1) S (iz s2) (iz w) = r := fun r hr => by
      rw [m_lost_b87]
      refine iteFE cc ?_
      rcases hpo with z | z
      · exact iteTE (by rw [z]; rfl) hr
      · exact iteFE (by rw [show (-1 : Int32) = iz (-1) from rfl, iz_eq (by omega)]; omega) (iteTE (by rw [z]) hr)
    obtain ⟨bb, m1, m2⟩ := m_seen (T := T) h hv hl (p := p) (w := w) (by omega) (by omega)
    have seen : Seen D q t (max 1 (ma M 5 3)) p w ↔ (last' ≠ -1 ∧ (w : Int) < last' + max 1 (ma M 5 3)) := by
      constructor
      · rintro ⟨j, j1, j2, j3, j4⟩
        rcases ld with ⟨e, e2⟩ | ⟨i, i1, i2, i3, i4, i5⟩
        · have := e2 j j1 j2; omega
        · have := i5 j j1 j2 j3
          have := (hf.2.2.2.2.2.1 i i1).2.2.2
          omega
      · rintro ⟨e, e2⟩
        rcases ld with ⟨e3, _⟩ | ⟨i, i1, i2, i3, i4, i5⟩
        · exact absurd e3 e
        · exact ⟨i, i1, i2, i4, by omega⟩
    rw [mx]
    by_cases sn : Seen D q t (max 1 (ma M 5 3)) p w
    · have sn' := seen.mp sn
      rw [show bb = true from m2.mpr sn] at m1
      obtain ⟨d, T', S', u1, u2, u3⟩ := ih (w + 1) T S k' last' l6' s1 s2 n' (by omega) (by omega) (by omega) hf hv hl hL g2'
      rw [mx1] at u2
      refine ⟨d, T', S', iteFE cc (g1.trans ?_), refs _ ?_, u3⟩
      · unfold x_lostAt_b84
        refine iteFE wax (iteFE (fun z => sn'.1 (l60.mp z)) (iteTE ?_ ?_))
        · rw [iz_add, iz_lt (by omega)]; exact sn'.2
        · rw [nmE, nw]; exact u1
      · unfold m_lost_b105
        refine bindE m1 (iteFE b2iT ?_)
        rw [nmE, nw]; exact u2
    · rw [show bb = false by
        cases bb
        · rfl
        · exact absurd (m2.mp rfl) sn] at m1
      -- how long unseen
      have ld2 := hl p w (by omega) (by omega)
      have yy := ld2.uniq ld
      have ei : 2000 * iz p + iz w = iz ((2000 * p + w : Nat) : Int) := by rw [show (2000 : Int32) = iz 2000 from rfl, iz_mul, iz_add]; congr 1
      have mu : m_unseenFor S (iz p) (iz w) = some (iz ((w : Int) - last')) := by
        unfold m_unseenFor
        rw [nmE, ei, iz_clampN (by omega), ma_eq S 49, yy]
        refine chkE rfl (by omega) ?_
        by_cases d : 0 ≤ last'
        · exact iteTE (by rw [show (0 : Int32) = iz 0 from rfl, iz_le (by omega)]; exact d) (by rw [iz_sub])
        · refine iteFE (by rw [show (0 : Int32) = iz 0 from rfl, iz_le (by omega)]; exact d) ?_
          rw [show (1 : Int32) = iz 1 from rfl, iz_add, show (w : Int) + 1 = w - last' by omega]
      obtain ⟨r, T1, S1, y1, y2, y3, y4⟩ := lostIn_iz h hf.1 hv.1 (N := N) (by omega) hL hp (w := w) (u := (w : Int) - last') (by omega)
      obtain ⟨z, hz, rfl⟩ := izE r
      obtain ⟨d, T', S', u1, u2, u3⟩ := ih (w + 1) T1 S1 k' last' l6' (s1 + z) (s2 + z) n' (by omega) (by omega) (by omega) (hf.k49 y3) (hv.k23 y4) (fun b u b1 u1 => by rw [ma_cg (y4.2.2 49 (by decide) (by decide))]; exact hl b u b1 u1) ⟨by rw [y3.1]; exact hL.1, by rw [y4.1]; exact hL.2⟩ g2'
      rw [mx1] at u2
      have x105 : x_lostAt_b105 N (iz p) (iz a) (iz b) (iz (max 1 (ma M 5 3))) (iz last') (iz l6') (iz k') (iz s1) (iz w) (fun t y5 y6 y7 y8 y9 => x_lostAt_b25 N (iz p) (iz a) (iz b) (iz (max 1 (ma M 5 3))) n t y5 y6 y7 y8 y9) T = some (iz (s1 + (z + d)), T') := by
        unfold x_lostAt_b105
        rw [iz_sub]
        refine b2E y1 ?_
        rw [nmE, nmE, nw, iz_add, ← Int.add_assoc]
        exact u1
      refine ⟨z + d, T', S', iteFE cc (g1.trans ?_), refs _ ?_, u3⟩
      · unfold x_lostAt_b84
        refine iteFE wax ?_
        by_cases e : last' = -1
        · exact iteTE (l60.mpr e) x105
        · refine iteFE (fun z => e (l60.mp z)) (iteFE ?_ x105)
          rw [iz_add, iz_lt (by omega)]
          exact fun z => sn (seen.mpr ⟨e, z⟩)
      · unfold m_lost_b105
        refine bindE m1 (iteTE rfl (bindE mu (b2E y2 ?_)))
        rw [nmE, nmE, nw, iz_add, ← Int.add_assoc]
        exact u2
theorem skip_l (N : Nat) {post p a b : Int} (hpo : -1 ≤ post ∧ post ≤ 9 ∧ 0 ≤ p ∧ p ≤ 9) (h1 : post ≠ -1) (h2 : post ≠ p) (hab : 0 ≤ a ∧ b ≤ 999) (k75 : MS → Int32 → Int32 → Option (Int32 × MS)) (S : MS) (s : Int32) : ∀ (n : Nat) (w : Int), 0 ≤ w ∧ w ≤ 1000 → w ≤ b + 1 → b + 1 - w < n → m_lost_b87 N (iz post) (iz a) (iz b) (iz p) k75 n S s (iz w) = k75 S s (iz (p + 1)) := by
  intro n
  have np : iz p + 1 = iz (p + 1) := by rw [show (1 : Int32) = iz 1 from rfl, iz_add]
  induction n with
  | zero => intro w hw hb hn; omega
  | succ n ih =>
    intro w hw hb hn
    rw [m_lost_b87]
    by_cases c : b < w
    · refine iteTE ((iz_lt (by omega)).mpr c) ?_
      rw [nmE, np]
    · refine iteFE (fun z => c ((iz_lt (by omega)).mp z)) (iteFE (by rw [show (-1 : Int32) = iz (-1) from rfl, iz_eq (by omega)]; exact h1) (iteFE (by rw [iz_eq (by omega)]; exact h2) ?_))
      rw [nmE, show (1 : Int32) = iz 1 from rfl, iz_add]
      exact ih (w + 1) (by omega) (by omega) (by omega)
theorem pre_l {M : MS} {S : MS} (hm : sm M S) {m : Nat} (hm0 : mi M 0 = m) (hm9 : m ≤ 9) {N : Nat} (hN : 20000 ≤ N) {post : Nat} (hp : post < m) {a b : Int} (hab : 0 ≤ a ∧ a ≤ b ∧ b ≤ 999) (s : Int32) : ∀ (d p n : Nat), p + d = post → m - p < n → ∃ n', m - post < n' ∧ m_lost_b75 N (iz post) (iz a) (iz b) n S s (iz p) = m_lost_b75 N (iz post) (iz a) (iz b) n' S s (iz post) := by
  intro d
  induction d with
  | zero =>
    intro p n e hn
    obtain rfl : p = post := by omega
    exact ⟨n, hn, rfl⟩
  | succ d ih =>
    intro p n e hn
    obtain ⟨n, rfl⟩ : ∃ f, n = f + 1 := ⟨n - 1, by omega⟩
    obtain ⟨n', g1, g2⟩ := ih (p + 1) n (by omega) (by omega)
    refine ⟨n', g1, ?_⟩
    rw [← g2, m_lost_b75, hm.2.1 0 rfl, mi_eq M 0, hm0]
    refine iteFE (by rw [iz_le (by omega)]; omega) ?_
    exact skip_l N (post := post) (p := p) (by omega) (by omega) (by omega) (by omega) _ S s N a (by omega) (by omega) (by omega)
theorem post_l {M : MS} {S : MS} (hm : sm M S) {m : Nat} (hm0 : mi M 0 = m) (hm9 : m ≤ 9) {N : Nat} (hN : 20000 ≤ N) {post : Nat} (hp : post < m) {a b : Int} (hab : 0 ≤ a ∧ a ≤ b ∧ b ≤ 999) (s : Int32) : ∀ (n p : Nat), post < p → p ≤ m → m - p < n → m_lost_b75 N (iz post) (iz a) (iz b) n S s (iz p) = some (s, S) := by
  intro n
  induction n with
  | zero => intro p _ _ hn; omega
  | succ n ih =>
    intro p h1 h2 hn
    rw [m_lost_b75, hm.2.1 0 rfl, mi_eq M 0, hm0]
    by_cases c : m ≤ p
    · exact iteTE ((iz_le (by omega)).mpr (by omega)) rfl
    · refine iteFE (by rw [iz_le (by omega)]; omega) ?_
      rw [skip_l N (post := post) (p := p) (by omega) (by omega) (by omega) (by omega) _ S s N a (by omega) (by omega) (by omega)]
      exact ih (p + 1) (by omega) (by omega) (by omega)
theorem all_l {X : XS} {A M : MS} {Vf : MS} {D : Nat} {q t : Nat → Int} (h : R X M) {N : Nat} (hN : 20000 ≤ N) {L : Nat} {a b : Int} (hab : 0 ≤ a ∧ a ≤ b ∧ b ≤ 999) : ∀ (n p : Nat) (T : XS) (S : MS) (s : Int), (p : Int) ≤ mi M 0 → mi M 0 - p < n → FW X M T Vf D q t → VW A M S D q t → (∀ b u : Nat, b < 9 → u < 2000 → LD D q t b u (ma S 49 (2000 * b + u))) → (T.1 16 = iz L ∧ S.1 44 = iz L) → ∃ r T' S', x_lost_b78 N (iz a) (iz b) n T (iz s) (iz p) = some (r, T') ∧ m_lost_b75 N (iz (-1)) (iz a) (iz b) n S (iz s) (iz p) = some (r, S') ∧ FW X M T' Vf D q t ∧ VW A M S' D q t := by
  have n9 := h.1.1.2
  intro n
  induction n with
  | zero => intro p T S s a1 a2; omega
  | succ n ih =>
    intro p T S s a1 a2 hf hv hl hL
    have t1 : T.1 1 = iz (mi M 0) := (h.scr hf.1 (sm.rf M)).1.1.1
    have s0 : S.1 0 = iz (mi M 0) := by rw [hv.1.2.1 0 rfl, mi_eq]
    rw [x_lost_b78, m_lost_b75, t1, s0]
    by_cases c : mi M 0 ≤ p
    · exact ⟨iz s, T, S, iteTE ((iz_le (by omega)).mpr c) rfl, iteTE ((iz_le (by omega)).mpr c) rfl, hf, hv⟩
    have cc : ¬ iz (mi M 0) ≤ iz p := fun z => c ((iz_le (by omega)).mp z)
    have np : iz p + 1 = iz ((p + 1 : Nat) : Int) := by rw [show (1 : Int32) = iz 1 from rfl, iz_add]; rfl
    obtain ⟨d, T1, S1, g1, g2, g3, g4, g5, g6⟩ := lostAt_l h hN (p := p) (by omega) (L := L) (post := -1) (Or.inl rfl) hab (fun t y6 y7 => m_lost_b75 N (iz (-1)) (iz a) (iz b) n t y6 y7) N 0 T S 0 (-1) 0 0 s N (by omega) (by omega) (by omega) hf hv hl hL ⟨by omega, fun j hj => absurd hj (by omega), Or.inl ⟨rfl, rfl, fun j hj => absurd hj (by omega)⟩⟩
    rw [show max ((0 : Nat) : Int) a = a by omega] at g2
    have la : x_lostAt N T (iz p) (iz a) (iz b) = some (iz d, T1) := by
      unfold x_lostAt
      have hs := h.1.2.2.1.2.2.2
      rw [nmE, show T.1 5 = iz (ma M 5 3) from (h.scr hf.1 (sm.rf M)).1.2.1.2.2.2, show (1 : Int32) = iz 1 from rfl, jmax_iz (by omega)]
      rw [Int.zero_add] at g1
      exact g1
    obtain ⟨r, T', S', k1, k2, k3⟩ := ih (p + 1) T1 S1 (s + d) (by omega) (by omega) g3 g4 g5 g6
    refine ⟨r, T', S', iteFE cc (b2E la ?_), iteFE cc (g2.trans k2), k3⟩
    rw [nmE, nmE, np, iz_add]
    exact k1
theorem law_lost {X : XS} {M : MS} (h : R X M) {N : Nat} (hN : 20000 ≤ N) (p w v u : Int32) : same (x_lost N X p w v u) (m_lost N M p w v u) := by
  obtain ⟨z, hz, rfl⟩ := izE p
  obtain ⟨r, hr, rfl⟩ := izE w
  obtain ⟨a, ha, rfl⟩ := izE v
  obtain ⟨b, hb, rfl⟩ := izE u
  have n9 := h.1.1.2
  obtain ⟨m, hm0⟩ : ∃ m : Nat, mi M 0 = m := ⟨(mi M 0).toNat, by omega⟩
  unfold x_lost m_lost
  by_cases c : ¬ (0 ≤ z ∧ z ≤ 5)
  · exact ⟨_, _, _, bindE (shelfF hz c) (iteTE rfl rfl), bindE (shelfF hz c) (iteTE rfl rfl), h⟩
  replace c := Decidable.not_not.mp c
  have w1 : x_in (iz r) (-1) (X.1 1 - 1) = some (decide (-1 ≤ r ∧ r ≤ mi M 0 - 1)) := by rw [h.1.1.1, show (-1 : Int32) = iz (-1) from rfl, show (1 : Int32) = iz 1 from rfl, iz_sub, x_in_iz (by omega)]
  have w2 := m_isPost_iz (M := M) h.1.1.2 hr
  have eq1 : (iz r = (-1 : Int32)) ↔ r = -1 := by rw [show (-1 : Int32) = iz (-1) from rfl, iz_eq (by omega)]
  have lt0 : (iz r < (0 : Int32)) ↔ r < 0 := by rw [show (0 : Int32) = iz 0 from rfl, iz_lt (by omega)]
  by_cases cp : ¬ (-1 ≤ r ∧ r ≤ mi M 0 - 1)
  · rw [decide_eq_false cp] at w1
    rw [decide_eq_false (by omega)] at w2
    exact ⟨_, _, _, bindE (shelfT c) (iteFE b2iT (bindE w1 (iteTE rfl rfl))), bindE (shelfT c) (iteFE b2iT (iteFE (fun y => by have := eq1.mp y; omega) (bindE w2 (iteTE rfl rfl)))), h⟩
  replace cp := Decidable.not_not.mp cp
  rw [decide_eq_true cp] at w1
  have mm : ∀ q, m_lost_b21 N (iz z) (iz r) (iz a) (iz b) M = q → (if iz r = (-1) then m_lost_b21 N (iz z) (iz r) (iz a) (iz b) M else (m_isPost M (iz r).toInt64).bind fun v4 => (if (b2i v4) = 0 then some ((-1), M) else m_lost_b21 N (iz z) (iz r) (iz a) (iz b) M)) = q := fun q hq => by
    by_cases e : r = -1
    · exact iteTE (eq1.mpr e) hq
    · rw [decide_eq_true (by omega)] at w2
      exact iteFE (fun y => e (eq1.mp y)) (bindE w2 (iteFE b2iT hq))
  unfold m_lost_b21 at mm ⊢
  have f1 := x_isMinute_iz ha
  have f2 := m_isMinute_iz ha
  by_cases cf : ¬ (0 ≤ a ∧ a ≤ 999)
  · rw [decide_eq_false cf] at f1 f2
    exact ⟨_, _, _, bindE (shelfT c) (iteFE b2iT (bindE w1 (iteFE b2iT (bindE f1 (iteTE rfl rfl))))), bindE (shelfT c) (iteFE b2iT (mm _ (bindE f2 (iteTE rfl rfl)))), h⟩
  replace cf := Decidable.not_not.mp cf
  rw [decide_eq_true cf] at f1 f2
  have k1 := x_isMinute_iz hb
  have k2 := m_isMinute_iz hb
  by_cases ck : ¬ (0 ≤ b ∧ b ≤ 999)
  · rw [decide_eq_false ck] at k1 k2
    exact ⟨_, _, _, bindE (shelfT c) (iteFE b2iT (bindE w1 (iteFE b2iT (bindE f1 (iteFE b2iT (bindE k1 (iteTE rfl rfl))))))), bindE (shelfT c) (iteFE b2iT (mm _ (bindE f2 (iteFE b2iT (bindE k2 (iteTE rfl rfl)))))), h⟩
  replace ck := Decidable.not_not.mp ck
  rw [decide_eq_true ck] at k1 k2
  have lab : (iz a ≤ iz b) ↔ a ≤ b := iz_le (by omega)
  by_cases cab : ¬ a ≤ b
  · exact ⟨_, _, _, bindE (shelfT c) (iteFE b2iT (bindE w1 (iteFE b2iT (bindE f1 (iteFE b2iT (bindE k1 (iteFE b2iT (iteFE (fun y => cab (lab.mp y)) rfl)))))))), bindE (shelfT c) (iteFE b2iT (mm _ (bindE f2 (iteFE b2iT (bindE k2 (iteFE b2iT (iteFE (fun y => cab (lab.mp y)) rfl))))))), h⟩
  replace cab := Decidable.not_not.mp cab
  obtain ⟨s, rfl⟩ : ∃ s : Nat, z = s := ⟨z.toNat, by omega⟩
  rcases lay_forthL h (N := N) (by omega) (s := s) (by omega) with ⟨e, he, l1, l2⟩ | ⟨T, S, V, D, q, t, L, l1, l2, l3, l4, l5, l6, l7⟩
  · have ne : ¬ (0 : Int32) ≤ iz e := by rw [show (0 : Int32) = iz 0 from rfl, iz_le (by omega)]; omega
    exact ⟨_, _, _, bindE (shelfT c) (iteFE b2iT (bindE w1 (iteFE b2iT (bindE f1 (iteFE b2iT (bindE k1 (iteFE b2iT (iteTE (lab.mpr cab) (b2E l1 (iteFE ne rfl)))))))))), bindE (shelfT c) (iteFE b2iT (mm _ (bindE f2 (iteFE b2iT (bindE k2 (iteFE b2iT (iteTE (lab.mpr cab) (bindE l2 (iteFE ne rfl))))))))), h.scr ((xs.rf X).setI rfl _) (sm.rf M)⟩
  obtain ⟨W, o1, o2, o3⟩ := looks_iz h l5 hN l4
  have W44 : W.1 44 = iz L := by rw [o2.2.1.2.1]; exact l7
  have xx : ∀ q, (if iz r < 0 then x_lost_b78 N (iz a) (iz b) N T 0 0 else b2 (x_lostAt N T (iz r) (iz a) (iz b)) fun v13 T14 => some (v13, T14)) = q → x_lost N X (iz s) (iz r) (iz a) (iz b) = q := fun q hq => by
    unfold x_lost
    exact bindE (shelfT c) (iteFE b2iT (bindE w1 (iteFE b2iT (bindE f1 (iteFE b2iT (bindE k1 (iteFE b2iT (iteTE (lab.mpr cab) (b2E l1 (iteTE (by decide : (0 : Int32) ≤ 0) hq))))))))))
  have mr : ∀ q, m_lost_b75 N (iz r) (iz a) (iz b) N W 0 0 = q → m_lost N M (iz s) (iz r) (iz a) (iz b) = q := fun q hq => by
    unfold m_lost m_lost_b21
    exact bindE (shelfT c) (iteFE b2iT (mm _ (bindE f2 (iteFE b2iT (bindE k2 (iteFE b2iT (iteTE (lab.mpr cab) (bindE l2 (iteTE (by decide : (0 : Int32) ≤ 0) (bindE l3 (bindE o1 hq)))))))))))
  by_cases r0 : r < 0
  · have re : r = -1 := by omega
    obtain ⟨v, T', S', g1, g2, g3, g4⟩ := all_l h hN (L := L) ⟨cf.1, cab, ck.2⟩ N 0 T W 0 (by omega) (by omega) l5 o2 o3 ⟨l6, W44⟩
    exact ⟨v, T', S', xx _ (iteTE (lt0.mpr r0) g1), mr _ (by rw [re]; exact g2), h.scr g3.1 g4.1⟩
  · obtain ⟨post, rfl⟩ : ∃ post : Nat, r = post := ⟨r.toNat, by omega⟩
    obtain ⟨n', p1, p2⟩ := pre_l o2.1 hm0 (by omega) hN (post := post) (by omega) (a := a) (b := b) ⟨cf.1, cab, ck.2⟩ (iz 0) post 0 N (by omega) (by omega)
    obtain ⟨n', rfl⟩ : ∃ f, n' = f + 1 := ⟨n' - 1, by omega⟩
    obtain ⟨d, T1, S1, g1, g2, g3, g4, g5, g6⟩ := lostAt_l h hN (p := post) (by omega) (L := L) (post := post) (Or.inr rfl) (a := a) (b := b) ⟨cf.1, cab, ck.2⟩ (fun t y6 y7 => m_lost_b75 N (iz post) (iz a) (iz b) n' t y6 y7) N 0 T W 0 (-1) 0 0 0 N (by omega) (by omega) (by omega) l5 o2 o3 ⟨l6, W44⟩ ⟨by omega, fun j hj => absurd hj (by omega), Or.inl ⟨rfl, rfl, fun j hj => absurd hj (by omega)⟩⟩
    rw [show max ((0 : Nat) : Int) a = a by omega] at g2
    rw [Int.zero_add] at g1 g2
    have la : x_lostAt N T (iz post) (iz a) (iz b) = some (iz d, T1) := by
      unfold x_lostAt
      have hs := h.1.2.2.1.2.2.2
      rw [nmE, show T.1 5 = iz (ma M 5 3) from (h.scr l5.1 (sm.rf M)).1.2.1.2.2.2, show (1 : Int32) = iz 1 from rfl, jmax_iz (by omega)]
      exact g1
    refine ⟨iz d, T1, S1, xx _ (iteFE (fun y => r0 (lt0.mp y)) (b2E la rfl)), mr _ ?_, h.scr g3.1 g4.1⟩
    refine p2.trans ?_
    rw [m_lost_b75, o2.1.2.1 0 rfl, mi_eq M 0, hm0]
    refine iteFE (by rw [iz_le (by omega)]; omega) (g2.trans ?_)
    exact post_l g4.1 hm0 (by omega) hN (post := post) (by omega) ⟨cf.1, cab, ck.2⟩ (iz d) n' (post + 1) (by omega) (by omega) (by omega)
