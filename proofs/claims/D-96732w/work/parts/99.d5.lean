/-! PLAIN LAW: two, the component's part. Own text. -/
set_option maxRecDepth 100000
theorem FW.x {X T : XS} {M S : MS} {D : Nat} {q t : Nat → Int} (h : FW X M T S D q t) {T' : XS} (hx : xs X T') (e17 : T'.1 17 = T.1 17) (e14 : T'.2.1 14 = T.2.1 14) (e15 : T'.2.1 15 = T.2.1 15) : FW X M T' S D q t := by
  obtain ⟨h1, h2, h3, h4, h5, h6, h7⟩ := h
  exact ⟨hx, h2, h3, e17.trans h4, h5, fun j hj => by rw [e14, e15]; exact h6 j hj, h7⟩
theorem mine_l {X : XS} {M S : MS} {D : Nat} {q t : Nat → Int} (N : Nat) {p : Int} (hp : 0 ≤ p ∧ p < 9) : ∀ (n i : Nat) (T : XS), i ≤ D → D - i < n → FW X M T S D q t → T.1 22 = iz (kn q t p i) → (∀ j, j < i → q j = p → t j ≤ 999 → T.2.1 21 (kn q t p j) = iz (t j)) → ∃ T', x_layMine_b7 N (iz p) n T (iz i) = some T' ∧ FW X M T' S D q t ∧ T'.1 22 = iz (kn q t p D) ∧ ∀ j, j < D → q j = p → t j ≤ 999 → T'.2.1 21 (kn q t p j) = iz (t j) := by
  intro n
  induction n with
  | zero => intro i T a b; omega
  | succ n ih =>
    intro i T a b hf h22 hj
    obtain ⟨h1, h2, h3, h4, h5, h6, h7⟩ := id hf
    rw [x_layMine_b7, h4]
    have kl := kn_le q t p i
    by_cases c : D ≤ i
    · obtain rfl : i = D := by omega
      exact ⟨T, iteTE (Int32.le_refl _) rfl, hf, h22, hj⟩
    have cc : ¬ iz D ≤ iz i := by rw [iz_le (by omega)]; omega
    have ni : iz i + 1 = iz ((i + 1 : Nat) : Int) := by rw [show (1 : Int32) = iz 1 from rfl, iz_add]; rfl
    obtain ⟨⟨a1, a2⟩, -, a3, a4⟩ := h6 i (by omega)
    have n9 := mi_R M 0
    have eq1 : (iz (q i) = iz p) ↔ q i = p := iz_eq (by omega)
    have le1 : (iz (t i) ≤ 999) ↔ t i ≤ 999 := by rw [show (999 : Int32) = iz 999 from rfl, iz_le (by omega)]
    simp only [nmE]
    rw [iz_clampN (by omega), a1, a2, ni]
    by_cases d1 : q i = p
    · by_cases d2 : t i ≤ 999
      · have nk : kn q t p (i + 1) = kn q t p i + 1 := by rw [kn, if_pos ⟨d1, d2⟩]
        have n22 : iz (kn q t p i) + 1 = iz ((kn q t p (i + 1) : Nat) : Int) := by rw [nk, show (1 : Int32) = iz 1 from rfl, iz_add]; rfl
        have ff : FW X M (xI (xA T 21 (kn q t p i) (iz (t i))) 22 (iz ((kn q t p (i + 1) : Nat) : Int))) S D q t := hf.x ((h1.setA rfl _ _).setI rfl _) rfl (by
          show (xA T 21 (kn q t p i) (iz (t i))).2.1 14 = _
          funext u; rw [xA21, if_neg (by decide)]) (by
          show (xA T 21 (kn q t p i) (iz (t i))).2.1 15 = _
          funext u; rw [xA21, if_neg (by decide)])
        obtain ⟨T', g1, g2⟩ := ih (i + 1) (xI (xA T 21 (kn q t p i) (iz (t i))) 22 (iz ((kn q t p (i + 1) : Nat) : Int))) (by omega) (by omega) ff rfl (fun j hj' j1 j2 => by
          show (xA T 21 (kn q t p i) (iz (t i))).2.1 21 _ = _
          rw [xA21, if_pos rfl]
          by_cases e : j = i
          · subst e; rw [if_pos rfl]
          · have := kn_lt (show j < i by omega) j1 j2
            rw [if_neg (by omega)]
            exact hj j (by omega) j1 j2)
        refine ⟨T', iteFE cc (chkE rfl (by omega) (iteTE (eq1.mpr d1) (chkE rfl (by omega) (iteTE (le1.mpr d2) (chkE rfl (by omega) (chkE h22 (by omega) ?_)))))), g2⟩
        rw [h22, iz_clampN (by omega), xA1, h22, n22]
        exact g1
      · have nk : kn q t p (i + 1) = kn q t p i := by rw [kn, if_neg (fun z => d2 z.2)]; rfl
        obtain ⟨T', g1, g2⟩ := ih (i + 1) T (by omega) (by omega) hf (by rw [nk]; exact h22) (fun j hj' j1 j2 => by
          by_cases e : j = i
          · subst e; exact absurd j2 d2
          · exact hj j (by omega) j1 j2)
        exact ⟨T', iteFE cc (chkE rfl (by omega) (iteTE (eq1.mpr d1) (chkE rfl (by omega) (iteFE (fun z => d2 (le1.mp z)) g1)))), g2⟩
    · have nk : kn q t p (i + 1) = kn q t p i := by rw [kn, if_neg (fun z => d1 z.1)]; rfl
      obtain ⟨T', g1, g2⟩ := ih (i + 1) T (by omega) (by omega) hf (by rw [nk]; exact h22) (fun j hj' j1 j2 => by
        by_cases e : j = i
        · subst e; exact absurd j1 d1
        · exact hj j (by omega) j1 j2)
      exact ⟨T', iteFE cc (chkE rfl (by omega) (iteFE (fun z => d1 (eq1.mp z)) g1)), g2⟩
/-- the merge -/
theorem merge_l (N : Nat) {T : XS} {n a0 : Nat} {o : Int} {f : Nat → Int} (hn : n ≤ 4000) (ho : 0 ≤ o ∧ o ≤ 99) (h22 : T.1 22 = iz n) (h21 : ∀ j, j < n → T.2.1 21 j = iz (f j) ∧ 0 ≤ f j ∧ f j ≤ 999) (hs : ∀ i j, i ≤ j → j < n → f i ≤ f j) : ∀ (m a b : Nat) (last most : Int), (n - a) + (n - b) < m → (a0 ≤ a ∧ a ≤ n ∧ b ≤ n) → (∀ j, j < b → f j + o ≤ 999) → Iv (Pd a0 o f a b) (a - a0 + b) last most → (∀ j, a ≤ j → j < n → last ≤ f j) → (∀ j, b ≤ j → j < n → last ≤ f j + o) → ∃ (r : Int) (b' : Nat) (l' : Int), x_gapOfTwo_b41 N (iz o) m T (iz a) (iz b) (iz last) (iz most) = some (iz r, T) ∧ b' ≤ n ∧ (∀ j, j < b' → f j + o ≤ 999) ∧ (b' < n → 999 < f b' + o) ∧ Iv (Pd a0 o f n b') (n - a0 + b') l' r := by
  intro m
  induction m with
  | zero => intro a b last most h; omega
  | succ m ih =>
    intro a b last most hm hab hb hiv hla hlb
    have h0 : a - a0 + b = 0 → ∀ w, ¬ Pd a0 o f a b w := fun z w hw => by
      rcases hw with ⟨j, j1, j2, -⟩ | ⟨j, j1, -⟩ <;> omega
    have bnd := hiv.2.1
    have na : iz a + 1 = iz ((a + 1 : Nat) : Int) := by rw [show (1 : Int32) = iz 1 from rfl, iz_add]; rfl
    have nb : iz b + 1 = iz ((b + 1 : Nat) : Int) := by rw [show (1 : Int32) = iz 1 from rfl, iz_add]; rfl
    -- the step of the first
    have sA : ∀ _ : Unit, a < n → (b < n → f b + o ≤ 999 → f a ≤ f b + o) → x_gapOfTwo_b128 N (iz o) (iz a) (iz b) (iz last) (iz most) (fun t y3 y4 y5 y6 => x_gapOfTwo_b41 N (iz o) m t y3 y4 y5 y6) T 0 = x_gapOfTwo_b41 N (iz o) m T (iz ((a + 1 : Nat) : Int)) (iz b) (iz (f a)) (iz (if last < 0 then most else max most (f a - last))) ∧ ∃ (r : Int) (b' : Nat) (l' : Int), x_gapOfTwo_b41 N (iz o) m T (iz ((a + 1 : Nat) : Int)) (iz b) (iz (f a)) (iz (if last < 0 then most else max most (f a - last))) = some (iz r, T) ∧ b' ≤ n ∧ (∀ j, j < b' → f j + o ≤ 999) ∧ (b' < n → 999 < f b' + o) ∧ Iv (Pd a0 o f n b') (n - a0 + b') l' r := by
      intro _ an hle
      obtain ⟨e1, e2, e3⟩ := h21 a an
      have lfa := hla a (Nat.le_refl _) an
      constructor
      · unfold x_gapOfTwo_b128
        refine iteTE rfl (chkE rfl (by omega) ?_)
        simp only [nmE]
        rw [iz_clampN (by omega), e1]
        refine iteTE trivial ?_
        unfold x_gapOfTwo_b169
        rw [na]
        by_cases l0 : last < 0
        · rw [if_pos l0]
          exact iteTE (by rw [show (0 : Int32) = iz 0 from rfl, iz_lt (by omega)]; exact l0) rfl
        · rw [if_neg l0]
          refine iteFE (by rw [show (0 : Int32) = iz 0 from rfl, iz_lt (by omega)]; exact l0) ?_
          rw [nmE, iz_sub, jmax_iz (by omega)]
      · refine ih (a + 1) b (f a) _ (by omega) (by omega) hb ?_ (fun j j1 j2 => hs a j (by omega) j2) (fun j j1 j2 => ?_)
        · rw [show a + 1 - a0 + b = (a - a0 + b) + 1 by omega]
          exact hiv.add (by omega) (Pd.a (by omega)) h0
        · have h1 := hs b j j1 j2
          by_cases z : f b + o ≤ 999
          · have := hle (by omega) z; omega
          · omega
    have sB : ∀ _ : Unit, b < n → f b + o ≤ 999 → (a < n → f b + o ≤ f a) → x_gapOfTwo_b128 N (iz o) (iz a) (iz b) (iz last) (iz most) (fun t y3 y4 y5 y6 => x_gapOfTwo_b41 N (iz o) m t y3 y4 y5 y6) T 1 = x_gapOfTwo_b41 N (iz o) m T (iz a) (iz ((b + 1 : Nat) : Int)) (iz (f b + o)) (iz (if last < 0 then most else max most (f b + o - last))) ∧ ∃ (r : Int) (b' : Nat) (l' : Int), x_gapOfTwo_b41 N (iz o) m T (iz a) (iz ((b + 1 : Nat) : Int)) (iz (f b + o)) (iz (if last < 0 then most else max most (f b + o - last))) = some (iz r, T) ∧ b' ≤ n ∧ (∀ j, j < b' → f j + o ≤ 999) ∧ (b' < n → 999 < f b' + o) ∧ Iv (Pd a0 o f n b') (n - a0 + b') l' r := by
      intro _ bn hb9 hle
      obtain ⟨e1, e2, e3⟩ := h21 b bn
      have lfb := hlb b (Nat.le_refl _) bn
      constructor
      · unfold x_gapOfTwo_b128
        refine iteFE (by decide) (chkE rfl (by omega) ?_)
        simp only [nmE]
        rw [iz_clampN (by omega), e1]
        refine iteFE (by decide) ?_
        unfold x_gapOfTwo_b169
        rw [nb, iz_add]
        by_cases l0 : last < 0
        · rw [if_pos l0]
          exact iteTE (by rw [show (0 : Int32) = iz 0 from rfl, iz_lt (by omega)]; exact l0) rfl
        · rw [if_neg l0]
          refine iteFE (by rw [show (0 : Int32) = iz 0 from rfl, iz_lt (by omega)]; exact l0) ?_
          rw [nmE, iz_sub, jmax_iz (by omega)]
      · refine ih a (b + 1) (f b + o) _ (by omega) (by omega) (fun j hj => ?_) ?_ (fun j j1 j2 => ?_) (fun j j1 j2 => ?_)
        · by_cases z : j = b
          · rw [z]; exact hb9
          · exact hb j (by omega)
        · rw [show a - a0 + (b + 1) = (a - a0 + b) + 1 by omega]
          exact hiv.add (by omega) Pd.b h0
        · have h1 := hs a j j1 j2
          have := hle (by omega); omega
        · have h1 := hs b j (by omega) j2; omega
    rw [x_gapOfTwo_b41, h22]
    have la : (iz a < iz n) ↔ a < n := by rw [iz_lt (by omega)]; omega
    have lb : (iz n ≤ iz b) ↔ n ≤ b := by rw [iz_le (by omega)]; omega
    have ea : (iz a = iz n) ↔ a = n := by rw [iz_eq (by omega)]; omega
    -- the choice
    have choose : ∀ _ : Unit, (a < n ∨ (b < n ∧ f b + o ≤ 999)) → ∃ (r : Int) (b' : Nat) (l' : Int), x_gapOfTwo_b73 N (iz o) (iz a) (iz b) (iz last) (iz most) (fun t y3 y4 y5 y6 => x_gapOfTwo_b41 N (iz o) m t y3 y4 y5 y6) T = some (iz r, T) ∧ b' ≤ n ∧ (∀ j, j < b' → f j + o ≤ 999) ∧ (b' < n → 999 < f b' + o) ∧ Iv (Pd a0 o f n b') (n - a0 + b') l' r := by
      intro _ hc
      unfold x_gapOfTwo_b73
      rw [h22]
      by_cases c1 : a = n
      · obtain ⟨g1, r, b', l', g2, g3⟩ := sB () (by omega) (by omega) (fun z => absurd z (by omega))
        exact ⟨r, b', l', iteTE (ea.mpr c1) (g1.trans g2), g3⟩
      by_cases c2 : n ≤ b
      · obtain ⟨g1, r, b', l', g2, g3⟩ := sA () (by omega) (fun z => absurd z (by omega))
        exact ⟨r, b', l', iteFE (fun z => c1 (ea.mp z)) (iteTE (lb.mpr c2) (g1.trans g2)), g3⟩
      obtain ⟨e1, e2, e3⟩ := h21 b (by omega)
      obtain ⟨e4, e5, e6⟩ := h21 a (by omega)
      have k1 : (999 < (T.2.1 21 (iz b).toNatClampNeg) + iz o) ↔ 999 < f b + o := by rw [iz_clampN (by omega), e1, iz_add, show (999 : Int32) = iz 999 from rfl, iz_lt (by omega)]
      have k2 : ((T.2.1 21 (iz a).toNatClampNeg) ≤ (T.2.1 21 (iz b).toNatClampNeg) + iz o) ↔ f a ≤ f b + o := by rw [iz_clampN (by omega), iz_clampN (by omega), e1, e4, iz_add, iz_le (by omega)]
      by_cases c3 : 999 < f b + o
      · obtain ⟨g1, r, b', l', g2, g3⟩ := sA () (by omega) (fun _ z => by omega)
        exact ⟨r, b', l', iteFE (fun z => c1 (ea.mp z)) (iteFE (fun z => c2 (lb.mp z)) (chkE rfl (by omega) (iteTE (k1.mpr c3) (g1.trans g2)))), g3⟩
      by_cases c4 : f a ≤ f b + o
      · obtain ⟨g1, r, b', l', g2, g3⟩ := sA () (by omega) (fun _ _ => c4)
        exact ⟨r, b', l', iteFE (fun z => c1 (ea.mp z)) (iteFE (fun z => c2 (lb.mp z)) (chkE rfl (by omega) (iteFE (fun z => c3 (k1.mp z)) (chkE rfl (by omega) (chkE rfl (by omega) (iteTE (k2.mpr c4) (g1.trans g2))))))), g3⟩
      · obtain ⟨g1, r, b', l', g2, g3⟩ := sB () (by omega) (by omega) (fun _ => by omega)
        exact ⟨r, b', l', iteFE (fun z => c1 (ea.mp z)) (iteFE (fun z => c2 (lb.mp z)) (chkE rfl (by omega) (iteFE (fun z => c3 (k1.mp z)) (chkE rfl (by omega) (chkE rfl (by omega) (iteFE (fun z => c4 (k2.mp z)) (g1.trans g2))))))), g3⟩
    by_cases c1 : a < n
    · obtain ⟨r, b', l', g1, g2⟩ := choose () (Or.inl c1)
      exact ⟨r, b', l', iteTE (la.mpr c1) g1, g2⟩
    have an : a = n := by omega
    by_cases c2 : n ≤ b
    · exact ⟨most, b, last, iteFE (fun z => c1 (la.mp z)) (iteTE (lb.mpr c2) rfl), by omega, hb, fun z => absurd z (by omega), by rw [← an]; exact hiv⟩
    obtain ⟨e1, e2, e3⟩ := h21 b (by omega)
    have k1 : (999 < (T.2.1 21 (iz b).toNatClampNeg) + iz o) ↔ 999 < f b + o := by rw [iz_clampN (by omega), e1, iz_add, show (999 : Int32) = iz 999 from rfl, iz_lt (by omega)]
    by_cases c3 : 999 < f b + o
    · exact ⟨most, b, last, iteFE (fun z => c1 (la.mp z)) (iteFE (fun z => c2 (lb.mp z)) (chkE rfl (by omega) (iteTE (k1.mpr c3) rfl))), by omega, hb, fun _ => c3, by rw [← an]; exact hiv⟩
    · obtain ⟨r, b', l', g1, g2⟩ := choose () (Or.inr ⟨by omega, by omega⟩)
      exact ⟨r, b', l', iteFE (fun z => c1 (la.mp z)) (iteFE (fun z => c2 (lb.mp z)) (chkE rfl (by omega) (iteFE (fun z => c3 (k1.mp z)) g1))), g2⟩
theorem from_l (N : Nat) {T : XS} {n : Nat} {o : Int} {f : Nat → Int} (hN : 10000 ≤ N) (hn : n ≤ 4000) (ho : 0 ≤ o ∧ o ≤ 99) (h22 : T.1 22 = iz n) (h21 : ∀ j, j < n → T.2.1 21 j = iz (f j) ∧ 0 ≤ f j ∧ f j ≤ 999) (hs : ∀ i j, i ≤ j → j < n → f i ≤ f j) : ∀ (m a : Nat), n - a < m → a ≤ n → (∀ j, j < a → f j < o) → ∃ (r : Int) (a0 b' : Nat) (l' : Int), x_gapOfTwo_b17 N (iz o) (iz 0) (iz (-1)) (iz (-2)) m T (iz a) = some (iz r, T) ∧ a0 ≤ n ∧ (∀ j, j < a0 → f j < o) ∧ (a0 < n → o ≤ f a0) ∧ b' ≤ n ∧ (∀ j, j < b' → f j + o ≤ 999) ∧ (b' < n → 999 < f b' + o) ∧ Iv (Pd a0 o f n b') (n - a0 + b') l' r := by
  intro m
  induction m with
  | zero => intro a h; omega
  | succ m ih =>
    intro a hm an hl
    have na : iz a + 1 = iz ((a + 1 : Nat) : Int) := by rw [show (1 : Int32) = iz 1 from rfl, iz_add]; rfl
    rw [x_gapOfTwo_b17, h22]
    have go : ∃ (r : Int) (b' : Nat) (l' : Int), x_gapOfTwo_b41 N (iz o) N T (iz a) (iz 0) (iz (-1)) (iz (-2)) = some (iz r, T) ∧ b' ≤ n ∧ (∀ j, j < b' → f j + o ≤ 999) ∧ (b' < n → 999 < f b' + o) ∧ Iv (Pd a o f n b') (n - a + b') l' r := by
      have := merge_l N (a0 := a) hn ho h22 h21 hs N a 0 (-1) (-2) (by omega) (by omega) (fun j hj => absurd hj (by omega)) (by
        have em : ∀ w, ¬ Pd a o f a 0 w := fun w hw => by
          rcases hw with ⟨j, j1, j2, -⟩ | ⟨j, j1, -⟩ <;> omega
        exact ⟨Sg.one (l := 0) (fun w hw => absurd hw (em w)) (by omega), by omega, fun _ => rfl, fun _ => rfl, by omega, by omega, fun w hw => absurd hw (em w)⟩) (fun j _ hj => by have := h21 j hj; omega) (fun j _ hj => by have := h21 j hj; omega)
      exact this
    obtain ⟨r, b', l', g1, g2⟩ := go
    have la : (iz n ≤ iz a) ↔ n ≤ a := by rw [iz_le (by omega)]; omega
    by_cases c : n ≤ a
    · exact ⟨r, a, b', l', iteTE (la.mpr c) g1, an, hl, fun z => absurd z (by omega), g2⟩
    obtain ⟨e1, e2, e3⟩ := h21 a (by omega)
    have k1 : (iz o ≤ (T.2.1 21 (iz a).toNatClampNeg)) ↔ o ≤ f a := by rw [iz_clampN (by omega), e1, iz_le (by omega)]
    by_cases d : o ≤ f a
    · exact ⟨r, a, b', l', iteFE (fun z => c (la.mp z)) (chkE rfl (by omega) (iteTE (k1.mpr d) g1)), an, hl, fun _ => d, g2⟩
    · obtain ⟨r, a0, b', l', u1, u2⟩ := ih (a + 1) (by omega) (by omega) (fun j hj => by
        by_cases z : j = a
        · rw [z]; omega
        · exact hl j (by omega))
      refine ⟨r, a0, b', l', iteFE (fun z => c (la.mp z)) (chkE rfl (by omega) (iteFE (fun z => d (k1.mp z)) ?_)), u2⟩
      rw [nmE, na]
      exact u1
/-- what the answer to 'two' is -/
def PdD (D : Nat) (q t : Nat → Int) (p o w : Int) : Prop := ∃ i, i < D ∧ q i = p ∧ ((t i ≤ 999 ∧ o ≤ t i ∧ t i = w) ∨ (t i + o ≤ 999 ∧ t i + o = w))
def G2 (D : Nat) (q t : Nat → Int) (p o r : Int) : Prop := (KK q t p o D ≤ 1 ∧ r = -2) ∨ (2 ≤ KK q t p o D ∧ 0 ≤ r ∧ r ≤ 2000 ∧ Sg (PdD D q t p o) r)
theorem G2.uniq {D : Nat} {q t : Nat → Int} {p o r r' : Int} (h : G2 D q t p o r) (h' : G2 D q t p o r') : r = r' := by
  rcases h with ⟨a1, a2⟩ | ⟨a1, a2, a3, a4⟩
  · rcases h' with ⟨b1, b2⟩ | ⟨b1, -⟩ <;> omega
  · rcases h' with ⟨b1, b2⟩ | ⟨b1, b2, b3, b4⟩
    · omega
    · exact a4.uniq (fun w => Iff.rfl) b4 a2 b2
theorem gap2_x {X T : XS} {M S : MS} {D : Nat} {q t : Nat → Int} (hf : FW X M T S D q t) {N : Nat} (hN : 10000 ≤ N) {p o : Int} (hp : 0 ≤ p ∧ p < 9) (ho : 0 ≤ o ∧ o ≤ 99) : ∃ r T', x_gapOfTwo N T (iz p) (iz o) = some (iz r, T') ∧ FW X M T' S D q t ∧ G2 D q t p o r := by
  obtain ⟨h1, h2, h3, h4, h5, h6, h7⟩ := id hf
  obtain ⟨T', g1, g2, g3, g4⟩ := mine_l N hp N 0 (xI T 22 0) (by omega) (by omega) (hf.x (h1.setI rfl _) rfl rfl rfl) rfl (fun j hj => absurd hj (by omega))
  have kD := kn_le q t p D
  have ml : MineL D q t p (fun j => (T'.2.1 21 j).toInt) := fun i i1 i2 i3 => by
    show (T'.2.1 21 (kn q t p i)).toInt = t i
    have := (h6 i i1).2.2.2
    rw [g4 i i1 i2 i3, iz_toInt (by omega)]
  have so := ml.sorted h7
  have h21 : ∀ j, j < kn q t p D → T'.2.1 21 j = iz ((T'.2.1 21 j).toInt) ∧ 0 ≤ (T'.2.1 21 j).toInt ∧ (T'.2.1 21 j).toInt ≤ 999 := fun j hj => by
    obtain ⟨i, i1, i2, i3, i4⟩ := kn_ex q t p D j hj
    have := ml i i1 i2 i3
    rw [i4] at this
    have e : (T'.2.1 21 j).toInt = t i := this
    have := (h6 i i1).2.2.2
    exact ⟨(iz_of _).symm, by omega⟩
  obtain ⟨r, a0, b', l', u1, u2, u3, u4, u5, u6, u7, u8⟩ := from_l N hN (show kn q t p D ≤ 4000 by omega) ho g3 h21 so N 0 (by omega) (by omega) (fun j hj => absurd hj (by omega))
  have kk := KK_eq ho.1 ml so u3 u4 u6 u7 D (Nat.le_refl _)
  have pe : ∀ w, Pd a0 o (fun j => (T'.2.1 21 j).toInt) (kn q t p D) b' w ↔ PdD D q t p o w := fun w => by
    constructor
    · rintro (⟨j, j1, j2, j3⟩ | ⟨j, j1, j2⟩)
      · obtain ⟨i, i1, i2, i3, i4⟩ := kn_ex q t p D j j2
        have e := ml i i1 i2 i3
        rw [i4] at e
        have := so a0 j j1 j2
        have := u4 (by omega)
        have e2 : (T'.2.1 21 j).toInt = w := j3
        have e3 : (T'.2.1 21 j).toInt = t i := e
        exact ⟨i, i1, i2, Or.inl ⟨i3, by omega, by omega⟩⟩
      · obtain ⟨i, i1, i2, i3, i4⟩ := kn_ex q t p D j (by omega)
        have e := ml i i1 i2 i3
        rw [i4] at e
        have v := u6 j j1
        have e2 : (T'.2.1 21 j).toInt + o = w := j2
        have e3 : (T'.2.1 21 j).toInt = t i := e
        have v2 : (T'.2.1 21 j).toInt + o ≤ 999 := v
        exact ⟨i, i1, i2, Or.inr ⟨by omega, by omega⟩⟩
    · rintro ⟨i, i1, i2, ⟨i3, i4, i5⟩ | ⟨i3, i4⟩⟩
      · have e := ml i i1 i2 i3
        have lt := kn_lt i1 i2 i3
        have e3 : (T'.2.1 21 (kn q t p i)).toInt = t i := e
        refine Or.inl ⟨kn q t p i, ?_, lt, by show (T'.2.1 21 (kn q t p i)).toInt = w; omega⟩
        by_cases z : a0 ≤ kn q t p i
        · exact z
        · have := u3 (kn q t p i) (by omega)
          have v : (T'.2.1 21 (kn q t p i)).toInt < o := this
          omega
      · have i3' : t i ≤ 999 := by omega
        have e := ml i i1 i2 i3'
        have lt := kn_lt i1 i2 i3'
        have e3 : (T'.2.1 21 (kn q t p i)).toInt = t i := e
        refine Or.inr ⟨kn q t p i, ?_, by show (T'.2.1 21 (kn q t p i)).toInt + o = w; omega⟩
        by_cases z : kn q t p i < b'
        · exact z
        · have v1 := so b' (kn q t p i) (by omega) lt
          have v2 := u7 (by omega)
          have v3 : (T'.2.1 21 b').toInt ≤ (T'.2.1 21 (kn q t p i)).toInt := v1
          have v4 : 999 < (T'.2.1 21 b').toInt + o := v2
          omega
  refine ⟨r, T', ?_, g2, ?_⟩
  · unfold x_gapOfTwo x_layMine
    rw [nmE]
    exact bindE g1 u1
  · obtain ⟨v1, v2, v3, v4, v5, v6, v7⟩ := u8
    by_cases z : KK q t p o D ≤ 1
    · exact Or.inl ⟨z, v4 (by omega)⟩
    · exact Or.inr ⟨by omega, v5 (by omega), by omega, v1.cg pe⟩
