/-! PLAIN LAW: gap, late. Own text. -/
set_option maxRecDepth 100000
def gp (t q : Nat → Int) (p : Int) : Nat → Int × Int
  | 0 => (0, -2)
  | k + 1 => if q k = p then (t k, max (gp t q p k).2 (t k - (gp t q p k).1)) else gp t q p k
theorem gp_no {t q : Nat → Int} {p : Int} : ∀ k : Nat, (∀ i, i < k → q i ≠ p) → gp t q p k = (0, -2) := by
  intro k
  induction k with
  | zero => intro _; rfl
  | succ k ih =>
    intro h
    show (if q k = p then _ else _) = _
    rw [if_neg (h k (by omega))]
    exact ih fun i hi => h i (by omega)
theorem gp_mono {t q : Nat → Int} {p : Int} (i : Nat) : ∀ d : Nat, (gp t q p i).2 ≤ (gp t q p (i + d)).2 := by
  intro d
  induction d with
  | zero => exact Int.le_refl _
  | succ d ih =>
    have e : gp t q p (i + (d + 1)) = if q (i + d) = p then (t (i + d), max (gp t q p (i + d)).2 (t (i + d) - (gp t q p (i + d)).1)) else gp t q p (i + d) := rfl
    rw [e]
    by_cases c : q (i + d) = p
    · rw [if_pos c]; show _ ≤ max _ _; omega
    · rw [if_neg c]; exact ih
/-- the last of a post's dents -/
theorem gp_last {t q : Nat → Int} {p : Int} : ∀ k : Nat, (∃ i, i < k ∧ q i = p) → ∃ i, i < k ∧ q i = p ∧ (gp t q p k).1 = t i := by
  intro k
  induction k with
  | zero => intro ⟨i, hi, _⟩; omega
  | succ k ih =>
    intro ⟨i, hi, hq⟩
    have e : gp t q p (k + 1) = if q k = p then (t k, max (gp t q p k).2 (t k - (gp t q p k).1)) else gp t q p k := rfl
    rw [e]
    by_cases c : q k = p
    · rw [if_pos c]; exact ⟨k, by omega, c, rfl⟩
    · rw [if_neg c]
      have : i ≠ k := fun z => c (by rw [← z]; exact hq)
      obtain ⟨j, j1, j2⟩ := ih ⟨i, by omega, hq⟩
      exact ⟨j, by omega, j2⟩
/-- the second lap brings but the gap from the last to the first -/
theorem gp_lap {t q : Nat → Int} {p : Int} {L : Nat} {Rr : Int} (hq : ∀ k, q (k + L) = q k) (ht : ∀ k, t (k + L) = t k + Rr) {f : Nat} (hf : f < L) (hfp : q f = p) (hff : ∀ i, i < f → q i ≠ p) : ∀ j : Nat, j ≤ L → (j ≤ f → gp t q p (L + j) = gp t q p L) ∧ (f < j → (gp t q p (L + j)).1 = (gp t q p j).1 + Rr ∧ (gp t q p (L + j)).2 = max (gp t q p L).2 (t f + Rr - (gp t q p L).1)) := by
  intro j
  induction j with
  | zero => intro _; exact ⟨fun _ => rfl, fun h => by omega⟩
  | succ j ih =>
    intro hj
    obtain ⟨i1, i2⟩ := ih (by omega)
    have e : gp t q p (L + (j + 1)) = if q j = p then (t j + Rr, max (gp t q p (L + j)).2 (t j + Rr - (gp t q p (L + j)).1)) else gp t q p (L + j) := by
      rw [← hq j, ← ht j, Nat.add_comm j L]; rfl
    have e' : gp t q p (j + 1) = if q j = p then (t j, max (gp t q p j).2 (t j - (gp t q p j).1)) else gp t q p j := rfl
    refine ⟨fun h => ?_, fun h => ?_⟩
    · rw [e, if_neg (hff j (by omega))]
      exact i1 (by omega)
    · by_cases c : j = f
      · subst c
        rw [e, e', if_pos hfp, if_pos hfp, i1 (Nat.le_refl _)]
        exact ⟨rfl, rfl⟩
      · obtain ⟨k1, k2⟩ := i2 (by omega)
        rw [e]
        by_cases d : q j = p
        · have m := gp_mono (t := t) (q := q) (p := p) (j + 1) (L - (j + 1))
          rw [show j + 1 + (L - (j + 1)) = L by omega] at m
          rw [e', if_pos d] at m ⊢
          rw [if_pos d, k1, k2]
          refine ⟨rfl, ?_⟩
          show max (max _ _) _ = _
          have m' : max (gp t q p j).2 (t j - (gp t q p j).1) ≤ (gp t q p L).2 := m
          omega
        · rw [if_neg d, e', if_neg d]
          exact ⟨k1, k2⟩
theorem qf_per {g : Nat → Int} {L : Nat} (k : Nat) : qf g L 0 (k + L) = qf g L 0 k := by
  unfold qf
  rw [if_pos rfl, if_pos rfl, Nat.add_mod_right]
theorem tm_per {M : MS} {q : Nat → Int} {L : Nat} (hq : ∀ k, q (k + L) = q k) : ∀ k, tm M q (k + L) = tm M q k + (tm M q L - tm M q 0) := by
  intro k
  induction k with
  | zero => rw [Nat.zero_add]; omega
  | succ k ih =>
    have e1 : tm M q (k + 1 + L) = tm M q (k + L) + (ma M 5 3 + dst M (q (k + L)) (q (k + L + 1))) := by
      rw [show k + 1 + L = k + L + 1 by omega]; rfl
    have e2 : tm M q (k + 1) = tm M q k + (ma M 5 3 + dst M (q k) (q (k + 1))) := rfl
    rw [e1, e2, hq k, show k + L + 1 = k + 1 + L by omega, hq (k + 1)]
    omega
theorem one_iz {X T : XS} {M S : MS} {L : Nat} {g : Nat → Int} (h : R X M) (hr : Rnd X M T S L g) (hL : 1 ≤ L) (N : Nat) : ∀ (n k : Nat), k ≤ L → L - k < n → m_oneRound_b4 N S n (iz (tm M (qf g L 0) k - tm M (qf g L 0) 0)) (iz k) = some (iz (tm M (qf g L 0) L - tm M (qf g L 0) 0)) := by
  intro n
  induction n with
  | zero => intro k h1 h2; omega
  | succ n ih =>
    intro k h1 h2
    have L20 := hr.2.2.1
    have hP := (h.scr hr.1 hr.2.1).1
    have i0 : mi S 0 = mi M 0 := sm_mi hr.2.1 rfl
    have ni : iz k + 1 = iz ((k + 1 : Nat) : Int) := by rw [show (1 : Int32) = iz 1 from rfl, iz_add]; rfl
    rw [m_oneRound_b4, hr.2.2.2.2.1]
    by_cases c : L ≤ k
    · obtain rfl : k = L := by omega
      exact iteTE (Int32.le_refl _) rfl
    have cc : ¬ iz L ≤ iz k := by rw [iz_le (by omega)]; omega
    have q0 : ∀ j, qf g L 0 j = g (j % L) := fun j => if_pos rfl
    have gz := qf_R hr (by omega) 0
    have g1 := gz k
    have g2 := gz (k + 1)
    have kl1 : (k + 1) % L < L := Nat.mod_lt _ (by omega)
    have a1 : S.2.1 45 (iz k).toNatClampNeg = iz (qf g L 0 k) := by rw [iz_clampN (by omega), (hr.2.2.2.2.2 k (by omega)).2.1, q0, Nat.mod_eq_of_lt (by omega)]
    have jr : jrem (iz k + 1) (iz L) = iz (((k + 1) % L : Nat) : Int) := by rw [ni, jrem_iz (by omega)]; congr 1
    have a2 : S.2.1 45 (jrem (iz k + 1) (iz L)).toNatClampNeg = iz (qf g L 0 (k + 1)) := by rw [jr, iz_clampN (by omega), (hr.2.2.2.2.2 _ kl1).2.1, q0]
    refine iteFE cc (chkE rfl (by omega) ?_)
    rw [nz_iz (by omega)]
    refine chkE jr (by omega) (bindE (by rw [a1, a2]; exact m_minutes_iz hP (by omega) (by omega)) ?_)
    rw [nmE, nmE, ni, ma_eq S 5, sm_ma hr.2.1 rfl, dst_sm hr.2.1, iz_add, iz_add, ← ih (k + 1) (by omega) (by omega)]
    congr 2
    show _ = tm M (qf g L 0) k + (ma M 5 3 + dst M (qf g L 0 k) (qf g L 0 (k + 1))) - tm M (qf g L 0) 0
    omega
theorem xgap_l {X T : XS} {M S : MS} {L : Nat} {g : Nat → Int} (h : R X M) (hr : Rnd X M T S L g) (hL : 1 ≤ L) (N : Nat) {p : Int} (hp : 0 ≤ p ∧ p < mi M 0) : ∀ (n k : Nat), k ≤ 2 * L → 2 * L - k < n → (-2 ≤ (gp (tm M (qf g L 0)) (qf g L 0) p k).2 ∧ (gp (tm M (qf g L 0)) (qf g L 0) p k).2 ≤ 20000) → (0 ≤ (gp (tm M (qf g L 0)) (qf g L 0) p k).1 ∧ (gp (tm M (qf g L 0)) (qf g L 0) p k).1 ≤ 20000) → x_gapOf_b20 N T (iz p) n (iz (tm M (qf g L 0) k)) (iz (gp (tm M (qf g L 0)) (qf g L 0) p k).1) (iz (gp (tm M (qf g L 0)) (qf g L 0) p k).2) (iz k) = some (iz (gp (tm M (qf g L 0)) (qf g L 0) p (2 * L)).2) := by
  intro n
  induction n with
  | zero => intro k h1 h2; omega
  | succ n ih =>
    intro k h1 h2 r1 r2
    have L20 := hr.2.2.1
    have n9 := h.1.1.2
    have hP := (h.scr hr.1 (sm.rf M)).1
    have gz := qf_R hr (by omega) 0
    have e2 : 2 * iz L = iz ((2 * L : Nat) : Int) := by rw [show (2 : Int32) = iz 2 from rfl, iz_mul]; rfl
    rw [x_gapOf_b20, hr.2.2.2.1, e2]
    by_cases c : 2 * L ≤ k
    · obtain rfl : k = 2 * L := by omega
      exact iteTE (Int32.le_refl _) rfl
    have cc : ¬ iz ((2 * L : Nat) : Int) ≤ iz k := by rw [iz_le (by omega)]; omega
    have ni : iz k + 1 = iz ((k + 1 : Nat) : Int) := by rw [show (1 : Int32) = iz 1 from rfl, iz_add]; rfl
    have g1 := goes_iz hr (T' := T) rfl rfl hL (d := 0) (Or.inl rfl) (k := k) (by omega)
    have g2 := goes_iz hr (T' := T) rfl rfl hL (d := 0) (Or.inl rfl) (k := k + 1) (by omega)
    have tr := tm_R h.1 gz k
    have stp : ∀ (l3 l4 : Int32) (kk : Int32 → Int32 → Int32 → Int32 → Option Int32), x_gapOf_b54 N T (iz p) (iz (tm M (qf g L 0) k)) l3 l4 (iz k) kk = kk (iz (tm M (qf g L 0) (k + 1))) l3 l4 (iz ((k + 1 : Nat) : Int)) := by
      intro l3 l4 kk
      unfold x_gapOf_b54
      refine bindE g1.1 (bindE (by rw [ni]; exact g2.1) (bindE (x_between_iz hP (gz k) (gz (k + 1))) ?_))
      rw [nmE, nmE, ni, show T.1 5 = iz (ma M 5 3) from hP.2.1.2.2.2, iz_add, iz_add]
      rfl
    have e : gp (tm M (qf g L 0)) (qf g L 0) p (k + 1) = if qf g L 0 k = p then (tm M (qf g L 0) k, max (gp (tm M (qf g L 0)) (qf g L 0) p k).2 (tm M (qf g L 0) k - (gp (tm M (qf g L 0)) (qf g L 0) p k).1)) else gp (tm M (qf g L 0)) (qf g L 0) p k := rfl
    have q1 := gz k
    have ih1 := ih (k + 1) (by omega) (by omega)
    rw [e] at ih1
    refine iteFE cc (bindE g1.1 ?_)
    by_cases w : qf g L 0 k = p
    · rw [if_pos w] at ih1
      refine iteTE (by rw [w]) ?_
      rw [nmE, stp, iz_sub, jmax_iz (by omega)]
      exact ih1 (by dsimp only; omega) (by dsimp only; omega)
    · rw [if_neg w] at ih1
      refine iteFE (by rw [iz_eq (by omega)]; exact w) ?_
      rw [stp]
      exact ih1 r1 r2
theorem gp_R {t q : Nat → Int} {p B : Int} (hB : 0 ≤ B) : ∀ k : Nat, (∀ i, i < k → 0 ≤ t i ∧ t i ≤ B) → (0 ≤ (gp t q p k).1 ∧ (gp t q p k).1 ≤ B) ∧ -2 ≤ (gp t q p k).2 ∧ (gp t q p k).2 ≤ B := by
  intro k
  induction k with
  | zero => intro _; exact ⟨⟨Int.le_refl _, hB⟩, Int.le_refl _, by show (-2 : Int) ≤ B; omega⟩
  | succ k ih =>
    intro h
    have i1 := ih fun i hi => h i (by omega)
    have i2 := h k (by omega)
    have e : gp t q p (k + 1) = if q k = p then (t k, max (gp t q p k).2 (t k - (gp t q p k).1)) else gp t q p k := rfl
    rw [e]
    by_cases c : q k = p
    · rw [if_pos c]
      dsimp only
      omega
    · rw [if_neg c]; exact i1
theorem mgap_l {X T : XS} {M S : MS} {L : Nat} {g : Nat → Int} (h : R X M) (hr : Rnd X M T S L g) (hL : 1 ≤ L) (N : Nat) {p : Int} (hp : 0 ≤ p ∧ p < mi M 0) : ∀ (n k : Nat) (l3 l4 l5 : Int), k ≤ L → L - k < n → (((∀ i, i < k → qf g L 0 i ≠ p) ∧ l3 = -2 ∧ l4 = -1 ∧ l5 = -1) ∨ (∃ f, f < k ∧ qf g L 0 f = p ∧ (∀ i, i < f → qf g L 0 i ≠ p) ∧ l4 = tm M (qf g L 0) f ∧ l5 = (gp (tm M (qf g L 0)) (qf g L 0) p k).1 ∧ l3 = (gp (tm M (qf g L 0)) (qf g L 0) p k).2 ∧ 0 ≤ l3)) → m_gapOf_b41 N S (iz p) (iz (tm M (qf g L 0) L - tm M (qf g L 0) 0)) n (iz l3) (iz l4) (iz l5) (iz (tm M (qf g L 0) k)) (iz k) = some (iz (gp (tm M (qf g L 0)) (qf g L 0) p (2 * L)).2) := by
  have L20 := hr.2.2.1
  have n9 := h.1.1.2
  have hP := (h.scr hr.1 hr.2.1).1
  have gz := qf_R hr (by omega) 0
  have tR : ∀ k, k ≤ 40 → 0 ≤ tm M (qf g L 0) k ∧ tm M (qf g L 0) k ≤ 20000 := fun k hk => by have := tm_R h.1 gz k; omega
  have per : ∀ k, qf g L 0 (k + L) = qf g L 0 k := qf_per
  have tp := tm_per (M := M) per
  have mono : ∀ i j, i ≤ j → tm M (qf g L 0) i ≤ tm M (qf g L 0) j := fun i j hij => by
    have := tm_mono h.1 gz i (j - i)
    rw [show i + (j - i) = j by omega] at this
    exact this
  generalize ht : tm M (qf g L 0) = t at tR tp mono
  generalize hq : qf g L 0 = q at per
  have R0 := mono 0 L (by omega)
  have RL := tR L (by omega)
  have R00 := tR 0 (by omega)
  have gR : ∀ k, k ≤ 40 → (0 ≤ (gp t q p k).1 ∧ (gp t q p k).1 ≤ 20000) ∧ -2 ≤ (gp t q p k).2 ∧ (gp t q p k).2 ≤ 20000 := fun k hk => gp_R (by omega) k fun i hi => tR i (by omega)
  intro n
  induction n with
  | zero => intro k l3 l4 l5 h1 h2; omega
  | succ n ih =>
    intro k l3 l4 l5 h1 h2 inv
    have gk := gR k (by omega)
    have gL := gR L (by omega)
    have tk := tR k (by omega)
    rw [m_gapOf_b41, hr.2.2.2.2.1]
    by_cases c : L ≤ k
    · obtain rfl : k = L := by omega
      rcases inv with ⟨i1, rfl, rfl, rfl⟩ | ⟨f, f1, f2, f3, rfl, rfl, rfl, f4⟩
      · refine iteTE (Int32.le_refl _) (iteTE rfl ?_)
        rw [gp_no (2 * k) (fun i hi => ?_)]
        by_cases d : i < k
        · exact i1 i d
        · have := per (i - k)
          rw [show i - k + k = i by omega] at this
          rw [this]
          exact i1 _ (by omega)
      · have lap := (gp_lap per tp f1 f2 f3 k (Nat.le_refl _)).2 f1
        rw [show 2 * k = k + k by omega, lap.2]
        refine iteTE (Int32.le_refl _) (iteFE (by rw [show (-2 : Int32) = iz (-2) from rfl, iz_eq (by omega)]; omega) ?_)
        have tf := tR f (by omega)
        obtain ⟨j, j1, j2, j3⟩ := gp_last (t := t) (q := q) (p := p) k ⟨f, f1, f2⟩
        have mj := mono f j (by
          by_cases d : f ≤ j
          · exact d
          · exact absurd j2 (f3 j (by omega)))
        by_cases e : t k - t 0 = 0
        · refine iteTE (by rw [e]; rfl) ?_
          rw [show max (gp t q p k).2 (t f + (t k - t 0) - (gp t q p k).1) = (gp t q p k).2 by omega]
        · refine iteFE (by rw [show (0 : Int32) = iz 0 from rfl, iz_eq (by omega)]; exact e) ?_
          rw [iz_sub, iz_add, jmax_iz (by omega)]
          congr 2
          omega
    have cc : ¬ iz L ≤ iz k := by rw [iz_le (by omega)]; omega
    have ni : iz k + 1 = iz ((k + 1 : Nat) : Int) := by rw [show (1 : Int32) = iz 1 from rfl, iz_add]; rfl
    have q0 : ∀ j, q j = g (j % L) := fun j => by rw [← hq]; exact if_pos rfl
    have g1 : 0 ≤ q k ∧ q k < mi M 0 := by rw [← hq]; exact gz k
    have g2 : 0 ≤ q (k + 1) ∧ q (k + 1) < mi M 0 := by rw [← hq]; exact gz (k + 1)
    have i0 : mi S 0 = mi M 0 := sm_mi hr.2.1 rfl
    have kl1 : (k + 1) % L < L := Nat.mod_lt _ (by omega)
    have a1 : S.2.1 45 (iz k).toNatClampNeg = iz (q k) := by rw [iz_clampN (by omega), (hr.2.2.2.2.2 k (by omega)).2.1, q0, Nat.mod_eq_of_lt (by omega)]
    have jr : jrem (iz k + 1) (iz L) = iz (((k + 1) % L : Nat) : Int) := by rw [ni, jrem_iz (by omega)]; congr 1
    have a2 : S.2.1 45 (jrem (iz k + 1) (iz L)).toNatClampNeg = iz (q (k + 1)) := by rw [jr, iz_clampN (by omega), (hr.2.2.2.2.2 _ kl1).2.1, q0]
    have stp : ∀ (a b d : Int32) (kk : Int32 → Int32 → Int32 → Int32 → Int32 → Option Int32), m_gapOf_b102 N S (iz p) (iz (t L - t 0)) a b d (iz (t k)) (iz k) kk = kk a b d (iz (t (k + 1))) (iz ((k + 1 : Nat) : Int)) := by
      intro a b d kk
      unfold m_gapOf_b102
      refine chkE rfl (by omega) ?_
      rw [hr.2.2.2.2.1, nz_iz (by omega)]
      refine chkE jr (by omega) (bindE (by rw [a1, a2]; exact m_minutes_iz hP (by omega) (by omega)) ?_)
      rw [nmE, nmE, ni, ma_eq S 5, sm_ma hr.2.1 rfl, dst_sm hr.2.1, iz_add, iz_add]
      congr 1
      rw [← ht, ← hq]
      rfl
    have e : gp t q p (k + 1) = if q k = p then (t k, max (gp t q p k).2 (t k - (gp t q p k).1)) else gp t q p k := rfl
    refine iteFE cc (chkE rfl (by omega) ?_)
    rw [a1]
    by_cases w : q k = p
    · refine iteTE (by rw [w]) ?_
      rw [if_pos w] at e
      rcases inv with ⟨i1, rfl, rfl, rfl⟩ | ⟨f, f1, f2, f3, rfl, rfl, rfl, f4⟩
      · refine iteFE (by decide) ?_
        unfold m_gapOf_b85
        rw [nmE, jmax_iz (by omega)]
        refine iteFE (by decide) ?_
        rw [stp]
        rw [gp_no k i1] at e
        refine ih (k + 1) _ _ _ (by omega) (by omega) (Or.inr ⟨k, by omega, w, i1, rfl, by rw [e], ?_, by omega⟩)
        rw [e]
        show max (-2) (t k) = max (-2) (t k - 0)
        omega
      · have tf := tR f (by omega)
        refine iteTE (by rw [show (0 : Int32) = iz 0 from rfl, iz_le (by omega)]; omega) ?_
        obtain ⟨j, j1, j2, j3⟩ := gp_last (t := t) (q := q) (p := p) k ⟨f, f1, f2⟩
        have mj := mono j k (by omega)
        have mj2 := mono k (j + L) (by omega)
        have mj3 := tp j
        have go : ∀ s2 : Int, s2 = t k - (gp t q p k).1 → m_gapOf_b85 N S (iz p) (iz (t L - t 0)) (iz (t f)) (iz (t k)) (iz k) (fun y3 y4 y5 y6 y7 => m_gapOf_b41 N S (iz p) (iz (t L - t 0)) n y3 y4 y5 y6 y7) (iz (gp t q p k).2) (iz s2) = some (iz (gp t q p (2 * L)).2) := by
          intro s2 hs2
          unfold m_gapOf_b85
          rw [nmE, jmax_iz (by omega)]
          refine iteTE (by rw [show (0 : Int32) = iz 0 from rfl, iz_le (by omega)]; omega) ?_
          rw [stp]
          refine ih (k + 1) _ _ _ (by omega) (by omega) (Or.inr ⟨f, by omega, f2, f3, rfl, by rw [e], by rw [e, hs2], by omega⟩)
        by_cases ez : t L - t 0 = 0
        · exact iteTE (by rw [ez]; rfl) (go 0 (by omega))
        · refine iteFE (by rw [show (0 : Int32) = iz 0 from rfl, iz_eq (by omega)]; exact ez) ?_
          rw [iz_sub]
          exact go _ rfl
    · refine iteFE (by rw [iz_eq (by omega)]; exact w) ?_
      rw [if_neg w] at e
      rw [stp]
      refine ih (k + 1) _ _ _ (by clear inv; omega) (by clear inv; omega) ?_
      rcases inv with ⟨i1, r⟩ | ⟨f, f1, f2, f3, r1, r2, r3, r4⟩
      · refine Or.inl ⟨fun i hi => ?_, r⟩
        by_cases d : i = k
        · rw [d]; exact w
        · exact i1 i (by omega)
      · exact Or.inr ⟨f, by omega, f2, f3, r1, by rw [e]; exact r2, by rw [e]; exact r3, r4⟩
theorem gap_iz {X T : XS} {M S : MS} {L : Nat} {g : Nat → Int} (h : R X M) (hr : Rnd X M T S L g) {N : Nat} (hN : 100 ≤ N) {p : Int} (hp : 0 ≤ p ∧ p < mi M 0) : ∃ v : Int, (-2 ≤ v ∧ v ≤ 20000 ∧ v ≠ -1) ∧ x_gapIn N T (iz p) = some (iz v) ∧ m_gapOf N S (iz p) = some (iz v) := by
  have L20 := hr.2.2.1
  unfold x_gapIn m_gapOf
  by_cases c : L = 0
  · subst c
    obtain ⟨N, rfl⟩ : ∃ n, N = n + 1 := ⟨N - 1, by omega⟩
    refine ⟨-2, by omega, iteTE (by rw [hr.2.2.2.1]; rfl) rfl, bindE (v := 0) ?_ (iteTE (by rw [hr.2.2.2.2.1]; rfl) ?_)⟩
    · unfold m_oneRound
      rw [m_oneRound_b4, hr.2.2.2.2.1]
      exact iteTE (by decide) rfl
    · rw [m_gapOf_b41, hr.2.2.2.2.1]
      exact iteTE (by decide) (iteTE rfl rfl)
  · have n9 := h.1.1.2
    have hP := (h.scr hr.1 (sm.rf M)).1
    have hPm := (h.scr hr.1 hr.2.1).1
    have i0 : mi S 0 = mi M 0 := sm_mi hr.2.1 rfl
    have gz := qf_R hr (by omega) 0
    have q0 : qf g L 0 0 = g 0 := by unfold qf; rw [if_pos rfl, Nat.zero_mod]
    have g0 := gz 0
    have nz0 : ¬ iz (L : Int) = 0 := by rw [show (0 : Int32) = iz 0 from rfl, iz_eq (by omega)]; omega
    have x0 : T.2.1 13 0 = iz (qf g L 0 0) := by rw [q0]; exact (hr.2.2.2.2.2 0 (by omega)).1
    have m0 : S.2.1 45 0 = iz (qf g L 0 0) := by rw [q0]; exact (hr.2.2.2.2.2 0 (by omega)).2.1
    have xl := xgap_l h hr (by omega) N hp N 0 (by omega) (by omega) ⟨Int.le_refl _, by show (-2 : Int) ≤ 20000; omega⟩ ⟨Int.le_refl _, by show (0 : Int) ≤ 20000; omega⟩
    have ml := mgap_l h hr (by omega) N hp N 0 (-2) (-1) (-1) (by omega) (by omega) (Or.inl ⟨fun i hi => absurd hi (by omega), rfl, rfl, rfl⟩)
    have tR : ∀ i, i < 2 * L → 0 ≤ tm M (qf g L 0) i ∧ tm M (qf g L 0) i ≤ 20000 := fun i hi => by have := tm_R h.1 gz i; omega
    have gr := gp_R (q := qf g L 0) (p := p) (by omega) (2 * L) tR
    refine ⟨(gp (tm M (qf g L 0)) (qf g L 0) p (2 * L)).2, ⟨gr.2.1, gr.2.2, ?_⟩, iteFE (by rw [hr.2.2.2.1]; exact nz0) (bindE (v := iz _) ?_ rfl), bindE (v := iz (tm M (qf g L 0) L - tm M (qf g L 0) 0)) ?_ (iteFE (by rw [hr.2.2.2.2.1]; exact nz0) (bindE (v := iz (dst M (-1) (qf g L 0 0))) ?_ ml))⟩
    · have mn : ∀ i j, i ≤ j → tm M (qf g L 0) i ≤ tm M (qf g L 0) j := fun i j hij => by
        have := tm_mono h.1 gz i (j - i)
        rw [show i + (j - i) = j by omega] at this
        exact this
      have gen : ∀ k, (gp (tm M (qf g L 0)) (qf g L 0) p k).2 = -2 ∧ (gp (tm M (qf g L 0)) (qf g L 0) p k).1 = 0 ∨ 0 ≤ (gp (tm M (qf g L 0)) (qf g L 0) p k).2 := by
        intro k
        induction k with
        | zero => exact Or.inl ⟨rfl, rfl⟩
        | succ k ih =>
          have e : gp (tm M (qf g L 0)) (qf g L 0) p (k + 1) = if qf g L 0 k = p then (tm M (qf g L 0) k, max (gp (tm M (qf g L 0)) (qf g L 0) p k).2 (tm M (qf g L 0) k - (gp (tm M (qf g L 0)) (qf g L 0) p k).1)) else gp (tm M (qf g L 0)) (qf g L 0) p k := rfl
          rw [e]
          by_cases w : qf g L 0 k = p
          · rw [if_pos w]
            refine Or.inr ?_
            have := tm_R h.1 gz k
            dsimp only
            rcases ih with ⟨_, i2⟩ | ih
            · omega
            · omega
          · rw [if_neg w]; exact ih
      rcases gen (2 * L) with ⟨e, _⟩ | e <;> omega
    · unfold x_gapOf
      refine bindE (by rw [x0]; exact x_fromGate_iz hP g0) ?_
      rw [dst_comm]
      exact xl
    · unfold m_oneRound
      have := one_iz h hr (by omega) N N 0 (by omega) (by omega)
      rw [Int.sub_self] at this
      exact this
    · rw [m0, show (-1 : Int32) = iz (-1) from rfl, m_minutes_iz hPm (by omega) (by omega), dst_sm hr.2.1]
theorem law_gap {X : XS} {M : MS} (h : R X M) {N : Nat} (hN : 100 ≤ N) (p w : Int32) : same (x_gap N X p w) (m_gap N M p w) := by
  obtain ⟨z, hz, rfl⟩ := izE p
  obtain ⟨r, hr, rfl⟩ := izE w
  unfold x_gap m_gap
  by_cases c : ¬ (0 ≤ z ∧ z ≤ 5)
  · exact ⟨_, _, _, bindE (shelfF hz c) (iteTE rfl rfl), bindE (shelfF hz c) (iteTE rfl rfl), h⟩
  replace c := Decidable.not_not.mp c
  have w1 := x_isPost_iz h.1.1.1 h.1.1.2 hr
  have w2 := m_isPost_iz (M := M) h.1.1.2 hr
  by_cases cp : ¬ (0 ≤ r ∧ r < mi M 0)
  · rw [decide_eq_false cp] at w1 w2
    exact ⟨_, _, _, bindE (shelfT c) (iteFE b2iT (bindE w1 (iteTE rfl rfl))), bindE (shelfT c) (iteFE b2iT (bindE w2 (iteTE rfl rfl))), h⟩
  replace cp := Decidable.not_not.mp cp
  rw [decide_eq_true cp] at w1 w2
  obtain ⟨s, rfl⟩ : ∃ s : Nat, z = s := ⟨z.toNat, by omega⟩
  rcases lay_read h (N := N) (by omega) (s := s) (by omega) with ⟨e, he, l1, l2⟩ | ⟨T, S, L, g, l1, l2, l3, l4⟩
  · have ne : ¬ (0 : Int32) ≤ iz e := by rw [show (0 : Int32) = iz 0 from rfl, iz_le (by omega)]; omega
    exact ⟨_, _, _, bindE (shelfT c) (iteFE b2iT (bindE w1 (iteFE b2iT (b2E l1 (iteFE ne rfl))))), bindE (shelfT c) (iteFE b2iT (bindE w2 (iteFE b2iT (bindE l2 (iteFE ne rfl))))), h.scr ((xs.rf X).setI rfl _) (sm.rf M)⟩
  obtain ⟨v, -, v1, v2⟩ := gap_iz h l4 hN cp
  exact ⟨iz v, T, S, bindE (shelfT c) (iteFE b2iT (bindE w1 (iteFE b2iT (b2E l1 (iteTE (by decide) (bindE v1 rfl)))))), bindE (shelfT c) (iteFE b2iT (bindE w2 (iteFE b2iT (bindE l2 (iteTE (by decide) (bindE l3 (bindE v2 rfl))))))), h.scr l4.1 l4.2.1⟩
theorem late_l {X T : XS} {M S : MS} {L : Nat} {g : Nat → Int} (h : R X M) (hr : Rnd X M T S L g) {N : Nat} (hN : 100 ≤ N) : ∀ (n i : Nat) (l3 : Int32), (i : Int) ≤ mi M 0 → mi M 0 - i < n → ∃ v, x_late_b26 N n T l3 (iz i) = some (v, T) ∧ m_late_b32 N n S l3 (iz i) = some (v, S) := by
  intro n
  induction n with
  | zero => intro i l3 h1 h2; omega
  | succ n ih =>
    intro i l3 h1 h2
    have n9 := h.1.1.2
    have hP := (h.scr hr.1 (sm.rf M)).1
    have s0 : S.1 0 = iz (mi M 0) := by rw [hr.2.1.2.1 0 rfl, mi_eq]
    have ni : iz i + 1 = iz ((i + 1 : Nat) : Int) := by rw [show (1 : Int32) = iz 1 from rfl, iz_add]; rfl
    rw [x_late_b26, m_late_b32, hP.1.1, s0]
    by_cases c : mi M 0 ≤ i
    · exact ⟨l3, iteTE ((iz_le (by omega)).mpr c) rfl, iteTE ((iz_le (by omega)).mpr c) rfl⟩
    have cc : ¬ iz (mi M 0) ≤ iz i := fun z => c ((iz_le (by omega)).mp z)
    obtain ⟨v, hv, v1, v2⟩ := gap_iz h hr hN (p := i) (by omega)
    obtain ⟨r1, r2, r3⟩ := ih (i + 1) (l3 ||| (1 <<< (iz i &&& 31))) (by omega) (by omega)
    have b63 : x_late_b63 N l3 (iz i) (fun t y3 y4 => x_late_b26 N n t y3 y4) T = some (r1, T) := by
      unfold x_late_b63
      rw [nmE, nmE, ni]
      exact r2
    have b68 : m_late_b68 N l3 (iz i) (fun t y3 y4 => m_late_b32 N n t y3 y4) S = some (r1, S) := by
      unfold m_late_b68
      rw [nmE, nmE, ni]
      exact r3
    by_cases w : v = -2
    · exact ⟨r1, iteFE cc (bindE v1 (iteTE (by rw [w]; decide) b63)), iteFE cc (bindE v2 (iteTE (by rw [w]; rfl) b68))⟩
    have x2 : ¬ iz v < 0 := by rw [show (0 : Int32) = iz 0 from rfl, iz_lt (by omega)]; omega
    have m2 : ¬ iz v = -2 := by rw [show (-2 : Int32) = iz (-2) from rfl, iz_eq (by omega)]; omega
    obtain ⟨a, o, q1, q2, q3, q4, q5, q6, q7, -⟩ := getP hP (p := i) (by omega)
    rw [Int.toNat_natCast] at q1 q7
    have q1' : T.2.2.1 0 (iz (i : Int)).toNatClampNeg = some a := by rw [iz_clampN (by omega)]; exact q1
    have m4 : S.2.1 4 (iz (i : Int)).toNatClampNeg = iz (ma M 4 i) := by rw [iz_clampN (by omega), hr.2.1.2.2 4 rfl, ma_eq]
    by_cases u : iz v ≤ iz (ma M 4 i)
    · obtain ⟨y1, y2, y3⟩ := ih (i + 1) l3 (by omega) (by omega)
      exact ⟨y1, iteFE cc (bindE v1 (iteFE x2 (bindE v1 (chkE rfl (by omega) (bindE q1' (bindE q2 (iteTE (by rw [q7]; exact u) (by rw [nmE, ni]; exact y2)))))))), iteFE cc (bindE v2 (iteFE m2 (bindE v2 (chkE rfl (by omega) (iteTE (by rw [m4]; exact u) (by rw [nmE, ni]; exact y3))))))⟩
    · exact ⟨r1, iteFE cc (bindE v1 (iteFE x2 (bindE v1 (chkE rfl (by omega) (bindE q1' (bindE q2 (iteFE (by rw [q7]; exact u) b63))))))), iteFE cc (bindE v2 (iteFE m2 (bindE v2 (chkE rfl (by omega) (iteFE (by rw [m4]; exact u) b68)))))⟩
theorem law_late {X : XS} {M : MS} (h : R X M) {N : Nat} (hN : 100 ≤ N) (p : Int32) : same (x_late N X p) (m_late N M p) := by
  obtain ⟨z, hz, rfl⟩ := izE p
  unfold x_late m_late
  by_cases c : ¬ (0 ≤ z ∧ z ≤ 5)
  · exact ⟨_, _, _, bindE (shelfF hz c) (iteTE rfl rfl), bindE (shelfF hz c) (iteTE rfl rfl), h⟩
  replace c := Decidable.not_not.mp c
  obtain ⟨s, rfl⟩ : ∃ s : Nat, z = s := ⟨z.toNat, by omega⟩
  have n9 := h.1.1.2
  rcases lay_read h (N := N) (by omega) (s := s) (by omega) with ⟨e, he, l1, l2⟩ | ⟨T, S, L, g, l1, l2, l3, l4⟩
  · have ne : ¬ (0 : Int32) ≤ iz e := by rw [show (0 : Int32) = iz 0 from rfl, iz_le (by omega)]; omega
    exact ⟨_, _, _, bindE (shelfT c) (iteFE b2iT (b2E l1 (iteFE ne rfl))), bindE (shelfT c) (iteFE b2iT (bindE l2 (iteFE ne rfl))), h.scr ((xs.rf X).setI rfl _) (sm.rf M)⟩
  obtain ⟨v, v1, v2⟩ := late_l h l4 hN N 0 0 (by omega) (by omega)
  exact ⟨v, T, S, bindE (shelfT c) (iteFE b2iT (b2E l1 (iteTE (by decide) v1))), bindE (shelfT c) (iteFE b2iT (bindE l2 (iteTE (by decide) (bindE l3 v2)))), h.scr l4.1 l4.2.1⟩
