/-! PLAIN LAW: the looks, unseen. Own text. -/
set_option maxRecDepth 100000
/-- the last dent of a post at or before a minute -/
def LD (D : Nat) (q t : Nat → Int) (p w v : Int) : Prop := (v = -1 ∧ ∀ j, j < D → q j = p → w < t j) ∨ ∃ j, j < D ∧ q j = p ∧ v = t j ∧ t j ≤ w ∧ ∀ i, i < D → q i = p → t i ≤ w → t i ≤ v
def hit (D : Nat) (q t : Nat → Int) (p w : Int) : Prop := ∃ j, j < D ∧ q j = p ∧ t j = w
/-- the dents of a round as the reference keeps them -/
def VW (A M S : MS) (D : Nat) (q t : Nat → Int) : Prop := sm M S ∧ (D ≤ 4000 ∧ S.1 = A.1 ∧ S.2.1 45 = A.2.1 45 ∧ S.2.1 50 = A.2.1 50) ∧ S.1 46 = iz D ∧ ∀ j, j < D → S.2.1 48 j = iz (q j) ∧ S.2.1 47 j = iz (t j) ∧ (0 ≤ q j ∧ q j ≤ 8) ∧ 0 ≤ t j ∧ t j ≤ 1999
theorem VW.set {A M S : MS} {D : Nat} {q t : Nat → Int} (h : VW A M S D q t) (j : Nat) (v : Int32) : VW A M (sA S 49 j v) D q t := by
  obtain ⟨h1, h2, h3, h4⟩ := h
  refine ⟨h1.setA rfl _ _, ⟨h2.1, h2.2.1, by rw [← h2.2.2.1]; funext i; rw [sA21, if_neg (by decide)], by rw [← h2.2.2.2]; funext i; rw [sA21, if_neg (by decide)]⟩, h3, fun i hi => ?_⟩
  rw [sA21, if_neg (by decide), sA21, if_neg (by decide)]
  exact h4 i hi
theorem looks3 {A M : MS} {D : Nat} {q t : Nat → Int} (ht : ∀ j, j < D → 0 ≤ t j) (N : Nat) (a : Nat) (ha : a < 9) (k75 : MS → Int32 → Option MS) : ∀ (n w : Nat) (S : MS), 1 ≤ w → w ≤ 2000 → 2000 - w < n → VW A M S D q t → (∀ u : Nat, u < w → LD D q t a u (ma S 49 (2000 * a + u))) → (∀ u : Nat, w ≤ u → u < 2000 → (hit D q t a u ∧ ma S 49 (2000 * a + u) = u) ∨ (¬ hit D q t a u ∧ ma S 49 (2000 * a + u) = -1)) → ∃ S', m_looks_b83 N (iz a) k75 n S (iz w) = k75 S' (iz ((a + 1 : Nat) : Int)) ∧ VW A M S' D q t ∧ (∀ u : Nat, u < 2000 → LD D q t a u (ma S' 49 (2000 * a + u))) ∧ ∀ j, (j < 2000 * a ∨ 2000 * a + 2000 ≤ j) → ma S' 49 j = ma S 49 j := by
  intro n
  induction n with
  | zero => intro w S h1 h2; omega
  | succ n ih =>
    intro w S h1 h2 h3 hv hl hr
    have na : iz a + 1 = iz ((a + 1 : Nat) : Int) := by rw [show (1 : Int32) = iz 1 from rfl, iz_add]; rfl
    have nw : iz w + 1 = iz ((w + 1 : Nat) : Int) := by rw [show (1 : Int32) = iz 1 from rfl, iz_add]; rfl
    have ei : 2000 * iz a + iz w = iz ((2000 * a + w : Nat) : Int) := by rw [show (2000 : Int32) = iz 2000 from rfl, iz_mul, iz_add]; congr 1
    have ei1 : 2000 * iz a + iz w - 1 = iz ((2000 * a + (w - 1) : Nat) : Int) := by rw [ei, show (1 : Int32) = iz 1 from rfl, iz_sub]; congr 1; omega
    rw [m_looks_b83]
    by_cases c : w = 2000
    · subst c
      refine ⟨S, iteTE (by decide) ?_, hv, hl, fun j _ => rfl⟩
      rw [nmE, na]
    have cc : ¬ (2000 : Int32) ≤ iz w := by rw [show (2000 : Int32) = iz 2000 from rfl, iz_le (by omega)]; omega
    have vv := ma_eq S 49 (2000 * a + w)
    have rr := ma_R S 49 (2000 * a + w)
    rcases hr w (Nat.le_refl _) (by omega) with ⟨b1, b2⟩ | ⟨b1, b2⟩
    · obtain ⟨S', g1, g2⟩ := ih (w + 1) S (by omega) (by omega) (by omega) hv (fun u hu => by
        by_cases d : u = w
        · subst d
          rw [b2]
          obtain ⟨j, j1, j2, j3⟩ := b1
          exact Or.inr ⟨j, j1, j2, j3.symm, by omega, fun i _ _ hi => hi⟩
        · exact hl u (by omega)) (fun u h1 h2 => hr u (by omega) h2)
      refine ⟨S', iteFE cc (chkE ei (by omega) (iteTE ?_ ?_)), g2⟩
      · rw [ei, iz_clampN (by omega), vv, b2, show (0 : Int32) = iz 0 from rfl, iz_le (by omega)]; omega
      · rw [nmE, nw]; exact g1
    · have r1 := ma_R S 49 (2000 * a + (w - 1))
      have mset : ∀ j, ma (sA S 49 (2000 * a + w) (iz (ma S 49 (2000 * a + (w - 1))))) 49 j = if j = 2000 * a + w then ma S 49 (2000 * a + (w - 1)) else ma S 49 j := fun j => by rw [ma_sA _ _ _ r1, if_pos rfl]
      obtain ⟨S', g1, g2, g3, g4⟩ := ih (w + 1) (sA S 49 (2000 * a + w) (iz (ma S 49 (2000 * a + (w - 1))))) (by omega) (by omega) (by omega) (hv.set _ _) (fun u hu => by
        rw [mset]
        by_cases d : u = w
        · subst d
          rw [if_pos rfl]
          rcases hl (u - 1) (by omega) with ⟨e1, e2⟩ | ⟨j, e1, e2, e3, e4, e5⟩
          · refine Or.inl ⟨e1, fun j j1 j2 => ?_⟩
            have := e2 j j1 j2
            by_cases z : t j = u
            · exact absurd ⟨j, j1, j2, z⟩ b1
            · omega
          · refine Or.inr ⟨j, e1, e2, e3, by omega, fun i i1 i2 i3 => e5 i i1 i2 ?_⟩
            by_cases z : t i = u
            · exact absurd ⟨i, i1, i2, z⟩ b1
            · omega
        · rw [if_neg (by omega)]
          exact hl u (by omega)) (fun u h1 h2 => by
        rw [mset, if_neg (by omega)]
        exact hr u (by omega) h2)
      refine ⟨S', iteFE cc (chkE ei (by omega) (iteFE ?_ (chkE ei1 (by omega) (chkE ei (by omega) ?_)))), g2, g3, fun j hj => ?_⟩
      · rw [ei, iz_clampN (by omega), vv, b2, show (0 : Int32) = iz 0 from rfl, iz_le (by omega)]; omega
      · rw [nmE, nmE, nw, ei1, ei, iz_clampN (by omega), iz_clampN (by omega), ma_eq S 49]
        exact g1
      · rw [g4 j hj, mset, if_neg (by omega)]
theorem looks2 {A M : MS} {D : Nat} {q t : Nat → Int} (ht : ∀ j, j < D → 0 ≤ t j) {N : Nat} (hN : 2500 ≤ N) : ∀ (n a : Nat) (S : MS), a ≤ 9 → 9 - a < n → VW A M S D q t → (∀ b u : Nat, b < a → u < 2000 → LD D q t b u (ma S 49 (2000 * b + u))) → (∀ b u : Nat, a ≤ b → b < 9 → u < 2000 → (hit D q t b u ∧ ma S 49 (2000 * b + u) = u) ∨ (¬ hit D q t b u ∧ ma S 49 (2000 * b + u) = -1)) → ∃ S', m_looks_b75 N n S (iz a) = some S' ∧ VW A M S' D q t ∧ ∀ b u : Nat, b < 9 → u < 2000 → LD D q t b u (ma S' 49 (2000 * b + u)) := by
  intro n
  induction n with
  | zero => intro a S h1 h2; omega
  | succ n ih =>
    intro a S h1 h2 hv hl hr
    rw [m_looks_b75]
    by_cases c : a = 9
    · subst c
      exact ⟨S, iteTE (by decide) rfl, hv, hl⟩
    have cc : ¬ (9 : Int32) ≤ iz a := by rw [show (9 : Int32) = iz 9 from rfl, iz_le (by omega)]; omega
    obtain ⟨S1, g1, g2, g3, g4⟩ := looks3 ht N a (by omega) (fun t y1 => m_looks_b75 N n t y1) N 1 S (by omega) (by omega) (by omega) hv (fun u hu => by
      obtain rfl : u = 0 := by omega
      rcases hr a 0 (by omega) (by omega) (by omega) with ⟨⟨j, j1, j2, j3⟩, b2⟩ | ⟨b1, b2⟩
      · rw [b2]
        exact Or.inr ⟨j, j1, j2, j3.symm, by omega, fun i _ _ hi => hi⟩
      · rw [b2]
        refine Or.inl ⟨rfl, fun j j1 j2 => ?_⟩
        have := ht j j1
        by_cases z : t j = ((0 : Nat) : Int)
        · exact absurd ⟨j, j1, j2, z⟩ b1
        · omega) (fun u u1 u2 => hr a u (by omega) (by omega) u2)
    obtain ⟨S', k1, k2, k3⟩ := ih (a + 1) S1 (by omega) (by omega) g2 (fun b u b1 u1 => by
      by_cases d : b = a
      · rw [d]; exact g3 u u1
      · rw [g4 _ (by omega)]; exact hl b u (by omega) u1) (fun b u b1 b2 u1 => by
      rw [g4 _ (by omega)]
      exact hr b u (by omega) b2 u1)
    exact ⟨S', iteFE cc (g1.trans k1), k2, k3⟩
theorem looks1 {A M : MS} {D : Nat} {q t : Nat → Int} {N : Nat} (hN : 5000 ≤ N) : ∀ (n i : Nat) (S : MS), i ≤ D → D - i < n → VW A M S D q t → (∀ b u : Nat, b < 9 → u < 2000 → (hit i q t b u ∧ ma S 49 (2000 * b + u) = u) ∨ (¬ hit i q t b u ∧ ma S 49 (2000 * b + u) = -1)) → ∃ S', m_looks_b31 N n S (iz i) = some S' ∧ VW A M S' D q t ∧ ∀ b u : Nat, b < 9 → u < 2000 → LD D q t b u (ma S' 49 (2000 * b + u)) := by
  intro n
  induction n with
  | zero => intro i S h1 h2; omega
  | succ n ih =>
    intro i S h1 h2 hv hr
    have D4 := hv.2.1.1
    rw [m_looks_b31, hv.2.2.1]
    by_cases c : D ≤ i
    · obtain rfl : i = D := by omega
      obtain ⟨S', k1, k2⟩ := looks2 (fun j hj => (hv.2.2.2 j hj).2.2.2.1) (N := N) (by omega) N 0 S (by omega) (by omega) hv (fun b u b1 => absurd b1 (by omega)) (fun b u _ b2 u1 => hr b u b2 u1)
      exact ⟨S', iteTE (Int32.le_refl _) k1, k2⟩
    have cc : ¬ iz D ≤ iz i := by rw [iz_le (by omega)]; omega
    obtain ⟨a1, a2, ⟨a3, a4⟩, a5, a6⟩ := hv.2.2.2 i (by omega)
    have ni : iz i + 1 = iz ((i + 1 : Nat) : Int) := by rw [show (1 : Int32) = iz 1 from rfl, iz_add]; rfl
    have ei : 2000 * iz (q i) + iz (t i) = iz ((2000 * (q i).toNat + (t i).toNat : Nat) : Int) := by rw [show (2000 : Int32) = iz 2000 from rfl, iz_mul, iz_add]; congr 1; omega
    have mset : ∀ j, ma (sA S 49 (2000 * (q i).toNat + (t i).toNat) (iz (t i))) 49 j = if j = 2000 * (q i).toNat + (t i).toNat then t i else ma S 49 j := fun j => by rw [ma_sA _ _ _ (by omega), if_pos rfl]
    obtain ⟨S', k1, k2⟩ := ih (i + 1) (sA S 49 (2000 * (q i).toNat + (t i).toNat) (iz (t i))) (by omega) (by omega) (hv.set _ _) (fun b u b1 u1 => by
      rw [mset]
      by_cases d : b = (q i).toNat ∧ u = (t i).toNat
      · rw [if_pos (by omega)]
        exact Or.inl ⟨⟨i, by omega, by omega, by omega⟩, by omega⟩
      · rw [if_neg (by omega)]
        rcases hr b u b1 u1 with ⟨⟨j, j1, j2, j3⟩, e⟩ | ⟨e1, e⟩
        · exact Or.inl ⟨⟨j, by omega, j2, j3⟩, e⟩
        · refine Or.inr ⟨fun ⟨j, j1, j2, j3⟩ => ?_, e⟩
          by_cases z : j = i
          · subst z; exact d ⟨by omega, by omega⟩
          · exact e1 ⟨j, by omega, j2, j3⟩)
    refine ⟨S', iteFE cc (chkE rfl (by omega) (chkE rfl (by omega) (chkE rfl (by omega) ?_))), k2⟩
    rw [iz_clampN (by omega), a1, a2, ei]
    refine chkE rfl (by omega) ?_
    rw [nmE, nmE, ni, iz_clampN (by omega)]
    exact k1
theorem looks0 {A M : MS} {D : Nat} {q t : Nat → Int} {N : Nat} (hN : 20000 ≤ N) : ∀ (n i : Nat) (S : MS), i ≤ 18000 → 18000 - i < n → VW A M S D q t → (∀ j, j < i → ma S 49 j = -1) → ∃ S', m_looks_b9 N n S (iz i) = some S' ∧ VW A M S' D q t ∧ ∀ b u : Nat, b < 9 → u < 2000 → LD D q t b u (ma S' 49 (2000 * b + u)) := by
  intro n
  induction n with
  | zero => intro i S h1 h2; omega
  | succ n ih =>
    intro i S h1 h2 hv hr
    have D4 := hv.2.1.1
    rw [m_looks_b9]
    by_cases c : i = 18000
    · obtain ⟨S', k1, k2⟩ := looks1 (N := N) (by omega) N 0 S (by omega) (by omega) hv (fun b u b1 u1 => Or.inr ⟨fun ⟨j, j1, _⟩ => absurd j1 (by omega), hr _ (by omega)⟩)
      refine ⟨S', iteTE ?_ k1, k2⟩
      rw [c]; decide
    have ni : iz i + 1 = iz ((i + 1 : Nat) : Int) := by rw [show (1 : Int32) = iz 1 from rfl, iz_add]; rfl
    obtain ⟨S', k1, k2⟩ := ih (i + 1) (sA S 49 i (iz (-1))) (by omega) (by omega) (hv.set _ _) (fun j hj => by
      rw [ma_sA _ _ _ (by omega), if_pos rfl]
      by_cases d : j = i
      · rw [if_pos d]
      · rw [if_neg d]; exact hr j (by omega))
    refine ⟨S', iteFE (by rw [show (18000 : Int32) = iz 18000 from rfl, iz_le (by omega)]; omega) (chkE rfl (by omega) ?_), k2⟩
    rw [nmE, nmE, ni, iz_clampN (by omega)]
    exact k1
theorem FW.vw {X T : XS} {M S : MS} {D : Nat} {q t : Nat → Int} (h : FW X M T S D q t) (hR : R X M) : VW S M S D q t := by
  obtain ⟨h1, h2, h3, h4, h5, h6, h7⟩ := h
  have n9 := hR.1.1.2
  refine ⟨h2, ⟨h3, rfl, rfl, rfl⟩, h5, fun j hj => ?_⟩
  obtain ⟨-, ⟨a1, a2⟩, a3, a4⟩ := h6 j hj
  exact ⟨a1, a2, by omega, a4⟩
theorem looks_iz {X T : XS} {M S V : MS} {D : Nat} {q t : Nat → Int} (hR : R X M) (h : FW X M T V D q t) {N : Nat} (hN : 20000 ≤ N) (hw : m_walks N S 4000 = some V) : ∃ V', m_looks N S = some V' ∧ VW V M V' D q t ∧ ∀ b u : Nat, b < 9 → u < 2000 → LD D q t b u (ma V' 49 (2000 * b + u)) := by
  obtain ⟨V', k1, k2⟩ := looks0 (A := V) (M := M) (D := D) (q := q) (t := t) hN N 0 V (by omega) (by omega) (h.vw hR) (fun j hj => absurd hj (by omega))
  exact ⟨V', bindE hw k1, k2⟩
