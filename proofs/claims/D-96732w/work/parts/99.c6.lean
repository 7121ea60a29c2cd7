/-! PLAIN LAW: unseen, thief. Own text. -/
set_option maxRecDepth 100000
/-- whether a post is seen at a minute -/
def Seen (D : Nat) (q t : Nat → Int) (vis p w : Int) : Prop := ∃ j, j < D ∧ q j = p ∧ t j ≤ w ∧ w < t j + vis
theorem m_seen {X T : XS} {A M V : MS} {D : Nat} {q t : Nat → Int} (hR : R X M) (h : VW A M V D q t) (hl : ∀ b u : Nat, b < 9 → u < 2000 → LD D q t b u (ma V 49 (2000 * b + u))) {p w : Int} (hp : 0 ≤ p ∧ p < 9) (hw : 0 ≤ w ∧ w < 2000) : ∃ b : Bool, m_isSeen V (iz p) (iz w) = some b ∧ (b = true ↔ Seen D q t (max 1 (ma M 5 3)) p w) := by
  have hs := hR.1.2.2.1.2.2.2
  have ei : 2000 * iz p + iz w = iz ((2000 * p.toNat + w.toNat : Nat) : Int) := by rw [show (2000 : Int32) = iz 2000 from rfl, iz_mul, iz_add]; congr 1; omega
  have e5 : V.2.1 5 3 = iz (ma M 5 3) := by rw [h.1.2.2 5 rfl, ma_eq]
  have ld := hl p.toNat w.toNat (by omega) (by omega)
  rw [show ((p.toNat : Nat) : Int) = p by omega, show ((w.toNat : Nat) : Int) = w by omega] at ld
  generalize hv : ma V 49 (2000 * p.toNat + w.toNat) = v at ld
  unfold m_isSeen
  rw [nmE, ei, iz_clampN (by omega), ma_eq V 49, hv, e5, show (1 : Int32) = iz 1 from rfl, jmax_iz (by omega), iz_sub]
  have vr : -1 ≤ v ∧ v ≤ w := by
    rcases ld with ⟨e, _⟩ | ⟨j, j1, j2, j3, j4, j5⟩
    · omega
    · have := (h.2.2.2 j j1).2.2.2
      omega
  by_cases c : v < 0
  · refine ⟨false, chkE rfl (by omega) (iteTE (by rw [show (0 : Int32) = iz 0 from rfl, iz_lt (by omega)]; exact c) rfl), fun z => absurd z (by decide), fun ⟨j, j1, j2, j3, j4⟩ => ?_⟩
    rcases ld with ⟨_, e⟩ | ⟨i, i1, i2, i3, i4, i5⟩
    · have := e j j1 j2; omega
    · have := (h.2.2.2 i i1).2.2.2
      omega
  · have cx : ¬ iz v < 0 := by rw [show (0 : Int32) = iz 0 from rfl, iz_lt (by omega)]; exact c
    rcases ld with ⟨e, _⟩ | ⟨i, i1, i2, i3, i4, i5⟩
    · omega
    by_cases d : max 1 (ma M 5 3) ≤ w - v
    · refine ⟨false, chkE rfl (by omega) (iteFE cx (iteTE ((iz_le (by omega)).mpr d) rfl)), fun z => absurd z (by decide), fun ⟨j, j1, j2, j3, j4⟩ => ?_⟩
      have := i5 j j1 j2 j3
      omega
    · exact ⟨true, chkE rfl (by omega) (iteFE cx (iteFE (fun z => d ((iz_le (by omega)).mp z)) rfl)), fun _ => ⟨i, i1, i2, by omega, by omega⟩, fun _ => rfl⟩
theorem xseen_l {X T : XS} {M S : MS} {D : Nat} {q t : Nat → Int} (hf : FW X M T S D q t) (N : Nat) {vis p w : Int} (hv : 1 ≤ vis ∧ vis ≤ 9) (hp : 0 ≤ p ∧ p < 9) (hw : 0 ≤ w ∧ w < 2000) : ∀ (n i : Nat), i ≤ D → D - i < n → (∀ j, j < i → ¬ (q j = p ∧ t j ≤ w ∧ w < t j + vis)) → ∃ b : Bool, x_isSeen_b12 N T (iz p) (iz w) (iz vis) n (iz i) = some b ∧ (b = true ↔ Seen D q t vis p w) := by
  obtain ⟨h1, h2, h3, h4, h5, h6, h7⟩ := hf
  intro n
  induction n with
  | zero => intro i a b; omega
  | succ n ih =>
    intro i a b hn
    have ni : iz i + 1 = iz ((i + 1 : Nat) : Int) := by rw [show (1 : Int32) = iz 1 from rfl, iz_add]; rfl
    rw [x_isSeen_b12, h4]
    by_cases c : D ≤ i
    · refine ⟨false, iteTE (by rw [iz_le (by omega)]; omega) rfl, fun z => absurd z (by decide), fun ⟨j, j1, j2⟩ => absurd j2 (hn j (by omega))⟩
    have cc : ¬ iz D ≤ iz i := by rw [iz_le (by omega)]; omega
    obtain ⟨⟨a1, a2⟩, -, a3, a4⟩ := h6 i (by omega)
    have n9 : q i ≤ 2147483647 := by
      have := (ma_R M 0 0); have := mi_R M 0; omega
    simp only [nmE]
    rw [iz_clampN (by omega), a1, a2, ni, iz_add]
    by_cases d : w < t i
    · refine ⟨false, iteFE cc (chkE rfl (by omega) (iteTE ((iz_lt (by omega)).mpr d) rfl)), fun z => absurd z (by decide), fun ⟨j, j1, j2, j3, j4⟩ => ?_⟩
      by_cases z : j < i
      · exact (hn j z ⟨j2, j3, j4⟩).elim
      · have := h7 i j (by omega) j1
        omega
    have dd : ¬ iz w < iz (t i) := fun z => d ((iz_lt (by omega)).mp z)
    by_cases e : q i = p
    · have ee : iz (q i) = iz p := by rw [e]
      by_cases f : t i + vis ≤ w
      · obtain ⟨bb, b1, b2⟩ := ih (i + 1) (by omega) (by omega) (fun j hj => by
          by_cases z : j = i
          · subst z; omega
          · exact hn j (by omega))
        exact ⟨bb, iteFE cc (chkE rfl (by omega) (iteFE dd (chkE rfl (by omega) (iteTE ee (chkE rfl (by omega) (iteTE ((iz_le (by omega)).mpr f) b1)))))), b2⟩
      · exact ⟨true, iteFE cc (chkE rfl (by omega) (iteFE dd (chkE rfl (by omega) (iteTE ee (chkE rfl (by omega) (iteFE (fun z => f ((iz_le (by omega)).mp z)) rfl)))))), fun _ => ⟨i, by omega, e, by omega, by omega⟩, fun _ => rfl⟩
    · obtain ⟨bb, b1, b2⟩ := ih (i + 1) (by omega) (by omega) (fun j hj => by
        by_cases z : j = i
        · subst z; omega
        · exact hn j (by omega))
      exact ⟨bb, iteFE cc (chkE rfl (by omega) (iteFE dd (chkE rfl (by omega) (iteFE (by rw [iz_eq (by omega)]; exact e) b1)))), b2⟩
theorem unseen_l {X T : XS} {M S : MS} {D : Nat} {q t : Nat → Int} (hf : FW X M T S D q t) (N : Nat) {p w : Int} (hp : 0 ≤ p ∧ p < 9) (hw : 0 ≤ w ∧ w < 2000) : ∀ (n i : Nat) (l : Int), i ≤ D → D - i < n → ((l = -1 ∧ ∀ j, j < i → q j = p → w < t j) ∨ ∃ j, j < i ∧ q j = p ∧ l = t j ∧ t j ≤ w ∧ ∀ k, k < i → q k = p → t k ≤ w → t k ≤ l) → ∃ v, x_unseenIn_b5 N T (iz p) (iz w) n (iz l) (iz i) = some (iz (w - v)) ∧ LD D q t p w v := by
  obtain ⟨h1, h2, h3, h4, h5, h6, h7⟩ := hf
  intro n
  induction n with
  | zero => intro i l a b; omega
  | succ n ih =>
    intro i l a b hl
    have ni : iz i + 1 = iz ((i + 1 : Nat) : Int) := by rw [show (1 : Int32) = iz 1 from rfl, iz_add]; rfl
    rw [x_unseenIn_b5, h4]
    by_cases c : D ≤ i
    · obtain rfl : i = D := by omega
      exact ⟨l, iteTE (Int32.le_refl _) (by rw [iz_sub]), hl⟩
    have cc : ¬ iz D ≤ iz i := by rw [iz_le (by omega)]; omega
    obtain ⟨⟨a1, a2⟩, -, a3, a4⟩ := h6 i (by omega)
    have n9 : q i ≤ 2147483647 := by
      have := mi_R M 0; omega
    simp only [nmE]
    rw [iz_clampN (by omega), a1, a2, ni, iz_sub]
    by_cases d : w < t i
    · refine ⟨l, iteFE cc (chkE rfl (by omega) (iteTE ((iz_lt (by omega)).mpr d) rfl)), ?_⟩
      rcases hl with ⟨e1, e2⟩ | ⟨j, j1, j2, j3, j4, j5⟩
      · refine Or.inl ⟨e1, fun j j1 j2 => ?_⟩
        by_cases z : j < i
        · exact e2 j z j2
        · have := h7 i j (by omega) j1; omega
      · refine Or.inr ⟨j, by omega, j2, j3, j4, fun k k1 k2 k3 => ?_⟩
        by_cases z : k < i
        · exact j5 k z k2 k3
        · have := h7 i k (by omega) k1; omega
    have dd : ¬ iz w < iz (t i) := fun z => d ((iz_lt (by omega)).mp z)
    by_cases e : q i = p
    · obtain ⟨v, v1, v2⟩ := ih (i + 1) (t i) (by omega) (by omega) (Or.inr ⟨i, by omega, e, rfl, by omega, fun k k1 k2 k3 => h7 k i (by omega) (by omega)⟩)
      exact ⟨v, iteFE cc (chkE rfl (by omega) (iteFE dd (chkE rfl (by omega) (iteTE (by rw [e]) (chkE rfl (by omega) v1))))), v2⟩
    · obtain ⟨v, v1, v2⟩ := ih (i + 1) l (by clear hl; omega) (by clear hl; omega) (by
        rcases hl with ⟨e1, e2⟩ | ⟨j, j1, j2, j3, j4, j5⟩
        · refine Or.inl ⟨e1, fun j j1 j2 => e2 j ?_ j2⟩
          by_cases z : j = i
          · subst z; exact absurd j2 e
          · omega
        · refine Or.inr ⟨j, by omega, j2, j3, j4, fun k k1 k2 k3 => j5 k ?_ k2 k3⟩
          by_cases z : k = i
          · subst z; exact absurd k2 e
          · omega)
      exact ⟨v, iteFE cc (chkE rfl (by omega) (iteFE dd (chkE rfl (by omega) (iteFE (by rw [iz_eq (by omega)]; exact e) v1)))), v2⟩
theorem LD.uniq {D : Nat} {q t : Nat → Int} {p w v v' : Int} (h : LD D q t p w v) (h' : LD D q t p w v') : v = v' := by
  rcases h with ⟨e1, e2⟩ | ⟨j, j1, j2, j3, j4, j5⟩
  · rcases h' with ⟨f1, f2⟩ | ⟨i, i1, i2, i3, i4, i5⟩
    · omega
    · have := e2 i i1 i2; omega
  · rcases h' with ⟨f1, f2⟩ | ⟨i, i1, i2, i3, i4, i5⟩
    · have := f2 j j1 j2; omega
    · have a := j5 i i1 i2 i4
      have b := i5 j j1 j2 j4
      omega
theorem law_unseen {X : XS} {M : MS} (h : R X M) {N : Nat} (hN : 20000 ≤ N) (p w v u : Int32) : same (x_unseen N X p w v u) (m_unseen N M p w v u) := by
  obtain ⟨z, hz, rfl⟩ := izE p
  obtain ⟨r, hr, rfl⟩ := izE w
  obtain ⟨f, hf, rfl⟩ := izE v
  obtain ⟨k, hk, rfl⟩ := izE u
  have n9 := h.1.1.2
  unfold x_unseen m_unseen
  by_cases c : ¬ (0 ≤ z ∧ z ≤ 5)
  · exact ⟨_, _, _, bindE (shelfF hz c) (iteTE rfl rfl), bindE (shelfF hz c) (iteTE rfl rfl), h⟩
  replace c := Decidable.not_not.mp c
  have w1 := x_isPost_iz h.1.1.1 h.1.1.2 hr
  have w2 := m_isPost_iz (M := M) h.1.1.2 hr
  by_cases cp : ¬ (0 ≤ r ∧ r < mi M 0)
  · rw [decide_eq_false cp] at w1 w2
    exact ⟨_, _, _, bindE (shelfT c) (iteFE b2iT (bindE w1 (iteTE rfl rfl))), bindE (shelfT c) (iteFE b2iT (bindE w2 (iteTE rfl rfl))), h⟩
  replace cp := Decidable.not_not.mp cp
  rw [decide_eq_true cp] at w1 w2
  have f1 := x_isMinute_iz hf
  have f2 := m_isMinute_iz hf
  by_cases cf : ¬ (0 ≤ f ∧ f ≤ 999)
  · rw [decide_eq_false cf] at f1 f2
    exact ⟨_, _, _, bindE (shelfT c) (iteFE b2iT (bindE w1 (iteFE b2iT (bindE f1 (iteTE rfl rfl))))), bindE (shelfT c) (iteFE b2iT (bindE w2 (iteFE b2iT (bindE f2 (iteTE rfl rfl))))), h⟩
  replace cf := Decidable.not_not.mp cf
  rw [decide_eq_true cf] at f1 f2
  have k1 : x_in (iz k) 0 1 = some (decide (0 ≤ k ∧ k ≤ 1)) := by rw [show (0 : Int32) = iz 0 from rfl, show (1 : Int32) = iz 1 from rfl, x_in_iz (by omega)]
  have k2 : m_within (iz k) 0 1 = some (decide (0 ≤ k ∧ k ≤ 1)) := k1
  by_cases ck : ¬ (0 ≤ k ∧ k ≤ 1)
  · rw [decide_eq_false ck] at k1 k2
    exact ⟨_, _, _, bindE (shelfT c) (iteFE b2iT (bindE w1 (iteFE b2iT (bindE f1 (iteFE b2iT (bindE k1 (iteTE rfl rfl))))))), bindE (shelfT c) (iteFE b2iT (bindE w2 (iteFE b2iT (bindE f2 (iteFE b2iT (bindE k2 (iteTE rfl rfl))))))), h⟩
  replace ck := Decidable.not_not.mp ck
  rw [decide_eq_true ck] at k1 k2
  obtain ⟨s, rfl⟩ : ∃ s : Nat, z = s := ⟨z.toNat, by omega⟩
  rcases lay_forth h (N := N) (by omega) (s := s) (by omega) with ⟨e, he, l1, l2⟩ | ⟨T, S, V, D, q, t, l1, l2, l3, l4, l5⟩
  · have ne : ¬ (0 : Int32) ≤ iz e := by rw [show (0 : Int32) = iz 0 from rfl, iz_le (by omega)]; omega
    exact ⟨_, _, _, bindE (shelfT c) (iteFE b2iT (bindE w1 (iteFE b2iT (bindE f1 (iteFE b2iT (bindE k1 (iteFE b2iT (b2E l1 (iteFE ne rfl))))))))), bindE (shelfT c) (iteFE b2iT (bindE w2 (iteFE b2iT (bindE f2 (iteFE b2iT (bindE k2 (iteFE b2iT (bindE l2 (iteFE ne rfl))))))))), h.scr ((xs.rf X).setI rfl _) (sm.rf M)⟩
  obtain ⟨W, o1, o2, o3⟩ := looks_iz h l5 hN l4
  have D4 := l5.2.2.1
  have fin := h.scr l5.1 o2.1
  have q0 : (iz k = 0) ↔ k = 0 := by rw [show (0 : Int32) = iz 0 from rfl, iz_eq (by omega)]
  by_cases k0 : k = 0
  · obtain ⟨y, y1, y2⟩ := unseen_l l5 N (p := r) (w := f) (by omega) (by omega) N 0 (-1) (by omega) (by omega) (Or.inl ⟨rfl, fun j hj => absurd hj (by omega)⟩)
    have ld := o3 r.toNat f.toNat (by omega) (by omega)
    rw [show ((r.toNat : Nat) : Int) = r by omega, show ((f.toNat : Nat) : Int) = f by omega] at ld
    have yy := ld.uniq y2
    have ei : 2000 * iz r + iz f = iz ((2000 * r.toNat + f.toNat : Nat) : Int) := by rw [show (2000 : Int32) = iz 2000 from rfl, iz_mul, iz_add]; congr 1; omega
    have yR : -1 ≤ y := by
      rcases y2 with ⟨e, _⟩ | ⟨j, j1, j2, j3, _⟩
      · omega
      · have := (o2.2.2.2 j j1).2.2.2; omega
    have yR2 := ma_R W 49 (2000 * r.toNat + f.toNat)
    have mu : m_unseenFor W (iz r) (iz f) = some (iz (f - y)) := by
      unfold m_unseenFor
      rw [nmE, ei, iz_clampN (by omega), ma_eq W 49, yy]
      refine chkE rfl (by omega) ?_
      by_cases d : 0 ≤ y
      · exact iteTE (by rw [show (0 : Int32) = iz 0 from rfl, iz_le (by omega)]; exact d) (by rw [iz_sub])
      · refine iteFE (by rw [show (0 : Int32) = iz 0 from rfl, iz_le (by omega)]; exact d) ?_
        rw [show (1 : Int32) = iz 1 from rfl, iz_add, show f + 1 = f - y by omega]
    exact ⟨iz (f - y), T, W, bindE (shelfT c) (iteFE b2iT (bindE w1 (iteFE b2iT (bindE f1 (iteFE b2iT (bindE k1 (iteFE b2iT (b2E l1 (iteTE (by decide) (iteTE (q0.mpr k0) (bindE y1 rfl))))))))))), bindE (shelfT c) (iteFE b2iT (bindE w2 (iteFE b2iT (bindE f2 (iteFE b2iT (bindE k2 (iteFE b2iT (bindE l2 (iteTE (by decide) (bindE l3 (bindE o1 (iteTE (q0.mpr k0) (bindE mu rfl))))))))))))), fin⟩
  · have k0x : ¬ iz k = 0 := fun y => k0 (q0.mp y)
    have hs := h.1.2.2.1.2.2.2
    obtain ⟨b1, x1, x2⟩ := xseen_l l5 N (vis := max 1 (ma M 5 3)) (p := r) (w := f) (by omega) (by omega) (by omega) N 0 (by omega) (by omega) (fun j hj => absurd hj (by omega))
    obtain ⟨b2', m1, m2⟩ := m_seen (T := T) h o2 o3 (p := r) (w := f) (by omega) (by omega)
    have eb : b1 = b2' := Bool.eq_iff_iff.mpr (x2.trans m2.symm)
    subst eb
    have xs1 : x_isSeen N T (iz r) (iz f) = some b1 := by
      unfold x_isSeen
      rw [nmE, show T.1 5 = iz (ma M 5 3) from (h.scr l5.1 (sm.rf M)).1.2.1.2.2.2, show (1 : Int32) = iz 1 from rfl, jmax_iz (by omega)]
      exact x1
    cases b1
    · exact ⟨0, T, W, bindE (shelfT c) (iteFE b2iT (bindE w1 (iteFE b2iT (bindE f1 (iteFE b2iT (bindE k1 (iteFE b2iT (b2E l1 (iteTE (by decide) (iteFE k0x (bindE xs1 (iteTE rfl rfl)))))))))))), bindE (shelfT c) (iteFE b2iT (bindE w2 (iteFE b2iT (bindE f2 (iteFE b2iT (bindE k2 (iteFE b2iT (bindE l2 (iteTE (by decide) (bindE l3 (bindE o1 (iteFE k0x (bindE m1 (iteTE rfl rfl)))))))))))))), fin⟩
    · exact ⟨1, T, W, bindE (shelfT c) (iteFE b2iT (bindE w1 (iteFE b2iT (bindE f1 (iteFE b2iT (bindE k1 (iteFE b2iT (b2E l1 (iteTE (by decide) (iteFE k0x (bindE xs1 (iteFE b2iT rfl)))))))))))), bindE (shelfT c) (iteFE b2iT (bindE w2 (iteFE b2iT (bindE f2 (iteFE b2iT (bindE k2 (iteFE b2iT (bindE l2 (iteTE (by decide) (bindE l3 (bindE o1 (iteFE k0x (bindE m1 (iteFE b2iT rfl)))))))))))))), fin⟩
