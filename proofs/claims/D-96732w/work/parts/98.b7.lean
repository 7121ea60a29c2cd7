/-! PLAIN LAW: paper, drawn. Own text. -/
set_option maxRecDepth 100000
theorem lay_l {X0 : XS} (N : Nat) {a b : Nat} {z : XO} (hz : rowZ X0 a 24 = some (b, z)) (h60 : z.2.2.2.1 ≤ 60) : ∀ (n i : Nat) (T : XS), i ≤ z.2.2.2.1 → z.2.2.2.1 - i < n → xs X0 T → T.1 26 = iz i → (∀ j, j < i → T.2.1 25 j = (rAt 24 z j).toInt32) → ∃ T', x_layPaper_b17 N a n T (iz i) = some (0, T') ∧ xs X0 T' ∧ T'.1 26 = iz z.2.2.2.1 ∧ (∀ j, j < z.2.2.2.1 → T'.2.1 25 j = (rAt 24 z j).toInt32) ∧ (∀ r, r ≠ 25 → T'.2.1 r = T.2.1 r) ∧ ∀ r, r ≠ 26 → T'.1 r = T.1 r := by
  intro n
  induction n with
  | zero => intro i T h1 h2; omega
  | succ n ih =>
    intro i T h1 h2 hx h26 ha
    have hz' : rowZ T a 24 = some (b, z) := by
      rw [← hz]
      unfold rowZ getO
      rw [hx.1]
    rw [x_layPaper_b17]
    have e1 : (Int32.ofNat z.2.2.2.1 ≤ iz i) ↔ z.2.2.2.1 ≤ i := by rw [iz_nat, iz_le (by omega)]; omega
    by_cases q : z.2.2.2.1 ≤ i
    · obtain rfl : i = z.2.2.2.1 := by omega
      exact ⟨T, b2E hz' (iteTE (e1.mpr q) rfl), hx, h26, ha, fun _ _ => rfl, fun _ _ => rfl⟩
    · have ni : iz i + 1 = iz ((i + 1 : Nat) : Int) := by rw [show (1 : Int32) = iz 1 from rfl, iz_add]; rfl
      obtain ⟨T', g1, g2, g3, g4, g5, g6⟩ := ih (i + 1) (xI (xA T 25 i (rAt 24 z i).toInt32) 26 (iz ((i + 1 : Nat) : Int))) (by omega) (by omega) ((hx.setA rfl _ _).setI rfl _) rfl (fun j hj => by
        show (xA T 25 i (rAt 24 z i).toInt32).2.1 25 j = _
        rw [xA21, if_pos rfl]
        by_cases c : j = i
        · rw [if_pos c, c]
        · rw [if_neg c]; exact ha j (by omega))
      refine ⟨T', b2E hz' (iteFE (fun w => q (e1.mp w)) (b2E hz' (chkE rfl (by omega) (chkE rfl (by omega) ?_)))), g2, g3, g4, fun r hr => (g5 r hr).trans (by
        funext j
        show (xA T 25 i (rAt 24 z i).toInt32).2.1 r j = _
        rw [xA21, if_neg hr]), fun r hr => (g6 r hr).trans (by rw [xI1, if_neg hr]; rfl)⟩
      simp only [nm_eq]
      rw [iz_clampN (by omega), xA1, h26, ni]
      exact g1
/-- how late: both say alike whether, and alike how much -/
def lateR (x m : Option Int32) : Prop := ∃ a b, x = some a ∧ m = some b ∧ ((0 ≤ a) ↔ 0 ≤ b) ∧ (0 ≤ a → a = b)
theorem toldAt_iz (M : MS) {s j : Nat} (hs : s < 6) (hj : j < 60) : m_toldAt M (iz s) (iz j) = some (M.2.2 (60 * s + j)).toInt32 := by
  unfold m_toldAt
  have e1 : (60 * iz s) + iz j = iz ((60 * s + j : Nat) : Int) := by rw [show (60 : Int32) = iz 60 from rfl, iz_mul, iz_add]; congr 1
  rw [e1, chk_iz (by omega), iz_clampN (by omega)]
theorem late_iz {X T : XS} {M : MS} (h : RP T M) {s n i : Nat} (hs : s < 6) (hn : n ≤ 60) (h26 : T.1 26 = iz n) (h42 : ma M 42 s = n) (h25 : ∀ j, j < n → T.2.1 25 j = (M.2.2 (60 * s + j)).toInt32) (hi : 2 * i < n) : lateR (x_laterThan T (iz i)) (m_later M (iz s) (iz i)) := by
  have k9 := h.1.2
  have e2 : 2 * iz i = iz ((2 * i : Nat) : Int) := by rw [show (2 : Int32) = iz 2 from rfl, iz_mul]; rfl
  have e21 : 2 * iz i + 1 = iz ((2 * i + 1 : Nat) : Int) := by rw [e2, show (1 : Int32) = iz 1 from rfl, iz_add]; rfl
  have m42 : M.2.1 42 (iz s).toNatClampNeg = iz n := by rw [iz_clampN (by omega), ma_eq, h42]
  unfold x_laterThan m_later
  by_cases c1 : n ≤ 2 * i + 1
  · exact ⟨-2000000000, -9999, iteTE (by rw [h26, e21, iz_le (by omega)]; omega) rfl, chkE rfl (by omega) (iteFE (by rw [e21, m42, iz_lt (by omega)]; omega) rfl), by decide, fun q => absurd q (by decide)⟩
  have c1x : ¬ T.1 26 ≤ 2 * iz i + 1 := by rw [h26, e21, iz_le (by omega)]; omega
  have c1m : 2 * iz i + 1 < M.2.1 42 (iz s).toNatClampNeg := by rw [e21, m42, iz_lt (by omega)]; omega
  obtain ⟨p, hp, ep⟩ := izE (M.2.2 (60 * s + 2 * i)).toInt32
  have xp : T.2.1 25 (2 * iz i).toNatClampNeg = iz p := by rw [e2, iz_clampN (by omega), h25 _ (by omega), ep]
  have t0 : m_toldAt M (iz s) (2 * iz i) = some (iz p) := by rw [e2, toldAt_iz M hs (by omega), ep]
  have t1 : m_toldAt M (iz s) (2 * iz i + 1) = some (M.2.2 (60 * s + (2 * i + 1))).toInt32 := by rw [e21, toldAt_iz M hs (by omega)]
  have px := x_isPost_iz h.1.1 h.1.2 hp
  have pm := m_isPost_iz (M := M) h.1.2 hp
  by_cases c2 : ¬ (0 ≤ p ∧ p < mi M 0)
  · rw [decide_eq_false c2] at px pm
    exact ⟨-2000000000, -9999, iteFE c1x (chkE e2 (by omega) (bindE (by rw [xp]; exact px) (iteTE rfl rfl))), chkE rfl (by omega) (iteTE c1m (bindE t0 (bindE t1 (bindE pm (iteTE rfl rfl))))), by decide, fun q => absurd q (by decide)⟩
  replace c2 := Decidable.not_not.mp c2
  rw [decide_eq_true c2] at px pm
  by_cases c3 : i = 0
  · subst c3
    have x1 : T.2.1 25 1 = (M.2.2 (60 * s + (2 * 0 + 1))).toInt32 := h25 1 (by omega)
    have xp0 : T.2.1 25 0 = iz p := xp
    have mm : m_minutes M (-1) (iz p) = some (iz (dst M p (-1))) := by rw [show (-1 : Int32) = iz (-1) from rfl, m_minutes_iz h (by omega) (by omega), dst_comm]
    refine ⟨(M.2.2 (60 * s + (2 * 0 + 1))).toInt32 - iz (dst M p (-1)), (M.2.2 (60 * s + (2 * 0 + 1))).toInt32 - iz (dst M p (-1)), iteFE c1x (chkE e2 (by omega) (bindE (by rw [xp]; exact px) (iteFE b2iT (iteTE rfl (bindE (by rw [xp0]; exact x_fromGate_iz h c2) (by rw [x1])))))), chkE rfl (by omega) (iteTE c1m (bindE t0 (bindE t1 (bindE pm (iteFE b2iT (iteTE rfl (bindE mm rfl))))))), Iff.rfl, fun _ => rfl⟩
  have n0 : ¬ iz i = 0 := by rw [show (0 : Int32) = iz 0 from rfl, iz_eq (by omega)]; omega
  have f2 : 2 * iz i - 2 = iz ((2 * i - 2 : Nat) : Int) := by rw [e2, show (2 : Int32) = iz 2 from rfl, iz_sub]; congr 1; omega
  have f1 : 2 * iz i - 1 = iz ((2 * i - 1 : Nat) : Int) := by rw [e2, show (1 : Int32) = iz 1 from rfl, iz_sub]; congr 1; omega
  obtain ⟨r, hr, er⟩ := izE (M.2.2 (60 * s + (2 * i - 2))).toInt32
  have xr : T.2.1 25 (2 * iz i - 2).toNatClampNeg = iz r := by rw [f2, iz_clampN (by omega), h25 _ (by omega), er]
  have t2 : m_toldAt M (iz s) (2 * iz i - 2) = some (iz r) := by rw [f2, toldAt_iz M hs (by omega), er]
  have t3 : m_toldAt M (iz s) (2 * iz i - 1) = some (M.2.2 (60 * s + (2 * i - 1))).toInt32 := by rw [f1, toldAt_iz M hs (by omega)]
  have xt1 : T.2.1 25 (2 * iz i + 1).toNatClampNeg = (M.2.2 (60 * s + (2 * i + 1))).toInt32 := by rw [e21, iz_clampN (by omega), h25 _ (by omega)]
  have xt3 : T.2.1 25 (2 * iz i - 1).toNatClampNeg = (M.2.2 (60 * s + (2 * i - 1))).toInt32 := by rw [f1, iz_clampN (by omega), h25 _ (by omega)]
  have rx := x_isPost_iz h.1.1 h.1.2 hr
  have rm := m_isPost_iz (M := M) h.1.2 hr
  by_cases c4 : ¬ (0 ≤ r ∧ r < mi M 0)
  · rw [decide_eq_false c4] at rx rm
    exact ⟨-2000000000, -9999, iteFE c1x (chkE e2 (by omega) (bindE (by rw [xp]; exact px) (iteFE b2iT (iteFE n0 (chkE f2 (by omega) (bindE (by rw [xr]; exact rx) (iteTE rfl rfl))))))), chkE rfl (by omega) (iteTE c1m (bindE t0 (bindE t1 (bindE pm (iteFE b2iT (iteFE n0 (bindE t2 (bindE rm (iteTE rfl rfl))))))))), by decide, fun q => absurd q (by decide)⟩
  replace c4 := Decidable.not_not.mp c4
  rw [decide_eq_true c4] at rx rm
  have g5 : T.1 5 = M.2.1 5 3 := by rw [h.2.1.2.2.2, ← ma_eq]
  refine ⟨_, _, iteFE c1x (chkE e2 (by omega) (bindE (by rw [xp]; exact px) (iteFE b2iT (iteFE n0 (chkE f2 (by omega) (bindE (by rw [xr]; exact rx) (iteFE b2iT (chkE e21 (by omega) (chkE f1 (by omega) (chkE f2 (by omega) (chkE e2 (by omega) (bindE (by rw [xr, xp]; exact x_between_iz h c4 c2) rfl)))))))))))), chkE rfl (by omega) (iteTE c1m (bindE t0 (bindE t1 (bindE pm (iteFE b2iT (iteFE n0 (bindE t2 (bindE rm (iteFE b2iT (bindE t3 (bindE (m_minutes_iz h (by omega) (by omega)) rfl))))))))))), ?_, ?_⟩
  · rw [xt1, xt3, g5]
  · intro _
    rw [xt1, xt3, g5]
def pap (N : Nat) (T : XS) (k : Nat) (l2 l4 l5 l6 l7 l8 i : Int32) : Option Int32 := if l2 = 0 then (if l4 = -2 then x_wrongDent_b2 N T k i else some l4) else if l2 = 1 then (if l4 = -2 then (x_wrongDent_b2 N T k i).bind fun w => x_slept_b17 N T 0 w k l5 l7 l6 i else some l5) else if l2 = 2 then (if l4 = -2 then (x_wrongDent_b2 N T k i).bind fun w => x_slept_b17 N T 1 w k l5 l7 l6 i else some l7) else x_forged_b4 N T k l8 i
theorem wrong_l {T : XS} (N : Nat) {n : Nat} (hn : n ≤ 60) (h26 : T.1 26 = iz n) (hl : ∀ i : Nat, 2 * i < n → ∃ a, x_laterThan T (iz i) = some a) : ∀ (k i : Nat), i ≤ 31 → 31 - i < k → ∃ w, x_wrongDent_b2 N T k (iz i) = some w ∧ (w = iz (-2) ∨ ∃ j : Nat, w = iz j ∧ i ≤ j ∧ j ≤ 60) := by
  intro k
  induction k with
  | zero => intro i h1 h2; omega
  | succ k ih =>
    intro i h1 h2
    rw [x_wrongDent_b2]
    have e2 : 2 * iz i = iz ((2 * i : Nat) : Int) := by rw [show (2 : Int32) = iz 2 from rfl, iz_mul]; rfl
    have e : (T.1 26 ≤ 2 * iz i) ↔ n ≤ 2 * i := by rw [h26, e2, iz_le (by omega)]; omega
    by_cases q : n ≤ 2 * i
    · exact ⟨iz (-2), iteTE (e.mpr q) rfl, Or.inl rfl⟩
    obtain ⟨a, ha⟩ := hl i (by omega)
    have ni : iz i + 1 = iz ((i + 1 : Nat) : Int) := by rw [show (1 : Int32) = iz 1 from rfl, iz_add]; rfl
    by_cases p : 0 ≤ a
    · obtain ⟨w, w1, w2⟩ := ih (i + 1) (by omega) (by omega)
      refine ⟨w, iteFE (fun z => q (e.mp z)) (bindE ha (iteTE p (by rw [nm_eq, ni]; exact w1))), ?_⟩
      rcases w2 with w2 | ⟨j, j1, j2, j3⟩
      · exact Or.inl w2
      · exact Or.inr ⟨j, j1, by omega, j3⟩
    · exact ⟨iz i, iteFE (fun z => q (e.mp z)) (bindE ha (iteFE p rfl)), Or.inr ⟨i, rfl, by omega, by omega⟩⟩
theorem paper_l {T : XS} {M : MS} (N : Nat) {s n : Nat} (hs : s < 6) (hn : n ≤ 60) (h26 : T.1 26 = iz n) (h42 : ma M 42 s = n) (hl : ∀ i : Nat, 2 * i < n → lateR (x_laterThan T (iz i)) (m_later M (iz s) (iz i))) {l2 : Int32} : ∀ (k i : Nat) (l4 l5 l6 l7 l8 : Int32), i ≤ 31 → 31 - i < k → ∃ v, m_paper_b51 N M (iz s) l2 k l4 l5 l6 l7 l8 (iz i) = some v ∧ pap N T k l2 l4 l5 l6 l7 l8 (iz i) = some v := by
  intro k
  induction k with
  | zero => intro i l4 l5 l6 l7 l8 h1 h2; omega
  | succ k ih =>
    intro i l4 l5 l6 l7 l8 h1 h2
    rw [m_paper_b51]
    unfold pap
    rw [x_wrongDent_b2, x_forged_b4]
    have e2 : 2 * iz i = iz ((2 * i : Nat) : Int) := by rw [show (2 : Int32) = iz 2 from rfl, iz_mul]; rfl
    have e : (T.1 26 ≤ 2 * iz i) ↔ n ≤ 2 * i := by rw [h26, e2, iz_le (by omega)]; omega
    have m42 : M.2.1 42 (iz s).toNatClampNeg = iz n := by rw [iz_clampN (by omega), ma_eq, h42]
    have em : (M.2.1 42 (iz s).toNatClampNeg ≤ 2 * iz i) ↔ n ≤ 2 * i := by rw [m42, e2, iz_le (by omega)]; omega
    have ni : iz i + 1 = iz ((i + 1 : Nat) : Int) := by rw [show (1 : Int32) = iz 1 from rfl, iz_add]; rfl
    by_cases q : n ≤ 2 * i
    · have ex := e.mpr q
      have sl : ∀ (l1 w a b c : Int32), x_slept_b17 N T l1 w (k + 1) a b c (iz i) = if l1 = 0 then some a else some b := fun l1 w a b c => by
        rw [x_slept_b17]; exact iteTE ex rfl
      rw [if_pos ex, if_pos ex]
      by_cases c0 : l2 = 0
      · refine ⟨l4, chkE rfl (by omega) (iteTE (em.mpr q) (iteTE c0 rfl)), iteTE c0 ?_⟩
        by_cases c4 : l4 = -2
        · rw [c4]; exact iteTE rfl rfl
        · exact iteFE c4 rfl
      by_cases c1 : l2 = 1
      · refine ⟨l5, chkE rfl (by omega) (iteTE (em.mpr q) (iteFE c0 (iteTE c1 rfl))), iteFE c0 (iteTE c1 ?_)⟩
        by_cases c4 : l4 = -2
        · exact iteTE c4 (bindE rfl ((sl _ _ _ _ _).trans rfl))
        · exact iteFE c4 rfl
      by_cases c2 : l2 = 2
      · refine ⟨l7, chkE rfl (by omega) (iteTE (em.mpr q) (iteFE c0 (iteFE c1 (iteTE c2 rfl)))), iteFE c0 (iteFE c1 (iteTE c2 ?_))⟩
        by_cases c4 : l4 = -2
        · exact iteTE c4 (bindE rfl ((sl _ _ _ _ _).trans rfl))
        · exact iteFE c4 rfl
      · exact ⟨l8, chkE rfl (by omega) (iteTE (em.mpr q) (iteFE c0 (iteFE c1 (iteFE c2 rfl)))), iteFE c0 (iteFE c1 (iteFE c2 rfl))⟩
    have ex : ¬ T.1 26 ≤ 2 * iz i := fun z => q (e.mp z)
    have em' : ¬ M.2.1 42 (iz s).toNatClampNeg ≤ 2 * iz i := fun z => q (em.mp z)
    obtain ⟨a, b, ha, hb, hab, hab2⟩ := hl i (by omega)
    rw [if_neg ex, if_neg ex, ha]
    simp only [Option.bind_some, nm_eq]
    obtain ⟨w, w1, w2⟩ := wrong_l N hn h26 (fun i hi => by obtain ⟨a, b, z, -⟩ := hl i hi; exact ⟨a, z⟩) k (i + 1) (by omega) (by omega)
    by_cases p : 0 ≤ a
    · obtain rfl := hab2 p
      rw [if_pos p, if_pos p, ni]
      have wi : iz i ≠ w := by
        rcases w2 with w2 | ⟨j, j1, j2, j3⟩
        · rw [w2]; intro z; have := (iz_eq (by omega)).mp z; omega
        · rw [j1]; intro z; have := (iz_eq (by omega)).mp z; omega
      have sl : ∀ (l1 x y c : Int32), x_slept_b17 N T l1 w (k + 1) x y c (iz i) = if c < a then x_slept_b17 N T l1 w k (x + a) (iz i) a (iz ((i + 1 : Nat) : Int)) else x_slept_b17 N T l1 w k (x + a) y c (iz ((i + 1 : Nat) : Int)) := fun l1 x y c => by
        rw [x_slept_b17]
        refine iteFE ex (iteFE wi (bindE ha ?_))
        simp only [nm_eq]
        rw [ni]
      by_cases c4 : l4 = -2
      · subst c4
        by_cases c6 : l6 < a
        · obtain ⟨v, v1, v2⟩ := ih (i + 1) (-2) (l5 + a) a (iz i) l8 (by omega) (by omega)
          refine ⟨v, chkE rfl (by omega) (iteFE em' (bindE hb (iteTE (hab.mp p) ?_))), ?_⟩
          · unfold m_paper_b92
            simp only [nm_eq]
            rw [ni]
            exact iteTE trivial (iteTE c6 v1)
          · rw [← v2]
            unfold pap
            rw [show l8 + 0 = l8 from Int32.add_zero l8, w1]
            simp only [Option.bind_some, sl, c6, if_true]
        · obtain ⟨v, v1, v2⟩ := ih (i + 1) (-2) (l5 + a) l6 l7 l8 (by omega) (by omega)
          refine ⟨v, chkE rfl (by omega) (iteFE em' (bindE hb (iteTE (hab.mp p) ?_))), ?_⟩
          · unfold m_paper_b92
            simp only [nm_eq]
            rw [ni]
            exact iteTE trivial (iteFE c6 v1)
          · rw [← v2]
            unfold pap
            rw [show l8 + 0 = l8 from Int32.add_zero l8, w1]
            simp only [Option.bind_some, sl, c6, if_true, if_false]
      · obtain ⟨v, v1, v2⟩ := ih (i + 1) l4 l5 l6 l7 l8 (by omega) (by omega)
        refine ⟨v, chkE rfl (by omega) (iteFE em' (bindE hb (iteTE (hab.mp p) ?_))), ?_⟩
        · unfold m_paper_b92
          simp only [nm_eq]
          rw [ni]
          exact iteFE c4 v1
        · rw [← v2]
          unfold pap
          rw [show l8 + 0 = l8 from Int32.add_zero l8]
          simp only [c4, if_false]
    · have pb : ¬ 0 ≤ b := fun z => p (hab.mpr z)
      rw [if_neg p, if_neg p, ni]
      have ii : ¬ iz i = -2 := by rw [show (-2 : Int32) = iz (-2) from rfl, iz_eq (by omega)]; omega
      have sl : ∀ (l1 x y c : Int32), x_slept_b17 N T l1 (iz i) (k + 1) x y c (iz i) = if l1 = 0 then some x else some y := fun l1 x y c => by
        rw [x_slept_b17]
        exact iteFE ex (iteTE rfl rfl)
      by_cases c4 : l4 = -2
      · subst c4
        obtain ⟨v, v1, v2⟩ := ih (i + 1) (iz i) l5 l6 l7 (l8 + 1) (by omega) (by omega)
        refine ⟨v, chkE rfl (by omega) (iteFE em' (bindE hb (iteFE pb (iteTE rfl ?_)))), ?_⟩
        · unfold m_paper_b92
          simp only [nm_eq]
          rw [ni]
          exact iteFE ii v1
        · rw [← v2]
          unfold pap
          simp only [Option.bind_some, sl, ii, if_true, if_false]
          rfl
      · obtain ⟨v, v1, v2⟩ := ih (i + 1) l4 l5 l6 l7 (l8 + 1) (by omega) (by omega)
        refine ⟨v, chkE rfl (by omega) (iteFE em' (bindE hb (iteFE pb (iteFE c4 ?_)))), ?_⟩
        · unfold m_paper_b92
          simp only [nm_eq]
          rw [ni]
          exact iteFE c4 v1
        · rw [← v2]
          unfold pap
          simp only [c4, if_false]
theorem law_paper {X : XS} {M : MS} (h : R X M) {N : Nat} (hN : 100 ≤ N) (p w : Int32) : sameX M (x_paper N X p w) (m_paper N M p w) := by
  have hR := h
  obtain ⟨z, hz, rfl⟩ := izE p
  obtain ⟨p, hp, rfl⟩ := izE w
  obtain ⟨h1, h2, h3, h4, h5, h6, h7, h8, h9⟩ := h
  unfold x_paper m_paper
  by_cases c : ¬ (0 ≤ z ∧ z ≤ 5)
  · exact ⟨_, _, bindE (shelfF hz c) (iteTE rfl rfl), bindE (shelfF hz c) (iteTE rfl rfl), hR⟩
  replace c := Decidable.not_not.mp c
  have w1 : x_in (iz p) 0 3 = some (decide (0 ≤ p ∧ p ≤ 3)) := by rw [show (0 : Int32) = iz 0 from rfl, show (3 : Int32) = iz 3 from rfl, x_in_iz (by omega)]
  have w2 : m_within (iz p) 0 3 = some (decide (0 ≤ p ∧ p ≤ 3)) := w1
  by_cases cp : ¬ (0 ≤ p ∧ p ≤ 3)
  · rw [decide_eq_false cp] at w1 w2
    exact ⟨_, _, bindE (shelfT c) (iteFE b2iT (bindE w1 (iteTE rfl rfl))), bindE (shelfT c) (iteFE b2iT (bindE w2 (iteTE rfl rfl))), hR⟩
  replace cp := Decidable.not_not.mp cp
  rw [decide_eq_true cp] at w1 w2
  obtain ⟨s, rfl⟩ : ∃ s : Nat, z = s := ⟨z.toNat, by omega⟩
  have e1 := h9.1 s (by omega)
  have ez : (iz s).toNatClampNeg = s := iz_clampN (by omega)
  have r41 := ma_R M 41 s
  have rs : R (xI X 26 0) M := hR.scr ((xs.rf X).setI rfl 0) (sm.rf M)
  have lit : ∀ k : Int, -100 ≤ k ∧ k ≤ 100 → ((M.2.1 41 (iz s).toNatClampNeg = iz k) ↔ ma M 41 s = k) := fun k hk => by rw [ez, ma_eq M 41, iz_eq (by omega)]
  by_cases d : ma M 41 s = -1
  · have ex : x_layPaper N X (iz s) = some (iz (-11), xI X 26 0) := by
      unfold x_layPaper
      rw [nm_eq]
      refine chkE rfl (by omega) (onlN ?_ rfl)
      rw [ez]
      rcases e1 with ⟨-, q⟩ | ⟨b, q, -⟩ | ⟨k, a, b, y, q1, q2, -⟩
      · exact q
      · omega
      · omega
    have em : m_noRow M (iz s) 1 = some (iz (-11)) := by
      unfold m_noRow
      exact chkE rfl (by omega) (iteTE ((lit (-1) (by omega)).mpr d) rfl)
    exact ⟨iz (-11), _, bindE (shelfT c) (iteFE b2iT (bindE w1 (iteFE b2iT (b2E ex (iteFE (by decide) rfl))))), bindE (shelfT c) (iteFE b2iT (bindE w2 (iteFE b2iT (bindE em (iteFE (by decide) rfl))))), rs⟩
  have nm1 : ¬ M.2.1 41 (iz s).toNatClampNeg = -1 := fun q => d ((lit (-1) (by omega)).mp q)
  by_cases d1 : ma M 41 s = 1
  · obtain ⟨a, b, y, g1, g2, g3, g4, g5⟩ := e1.row (h := 1) d1 (by omega)
    obtain ⟨x, x1, x2, -⟩ := rowZ_ex g2
    obtain ⟨T, t1, t2, t3, t4, -⟩ := lay_l (X0 := xI X 26 0) N g2 g4 N 0 (xI X 26 0) (by omega) (by omega) (xs.rf _) rfl (fun j hj => absurd hj (by omega))
    have ex : x_layPaper N X (iz s) = some (0, T) := by
      unfold x_layPaper
      rw [nm_eq]
      exact chkE rfl (by omega) (onlS (by rw [ez]; exact g1) (bindE x1 (iteTE x2 t1)))
    have em : m_noRow M (iz s) 1 = some 0 := by
      unfold m_noRow
      exact chkE rfl (by omega) (iteFE nm1 (chkE rfl (by omega) (iteTE ((lit 1 (by omega)).mpr d1) rfl)))
    have rT : R T M := rs.scr t2 (sm.rf M)
    have hl : ∀ i : Nat, 2 * i < y.2.2.2.1 → lateR (x_laterThan T (iz i)) (m_later M (iz s) (iz i)) := fun i hi => late_iz (X := X) rT.1 (by omega) g4 t3 g3 (fun j hj => by rw [t4 j hj, g5 j hj]) hi
    have pk : ∀ l2 : Int32, ∃ v, m_paper_b51 N M (iz s) l2 N (-2) 0 0 (-2) 0 (iz ((0 : Nat) : Int)) = some v ∧ pap N T N l2 (-2) 0 0 (-2) 0 (iz ((0 : Nat) : Int)) = some v := fun l2 => paper_l N (by omega) g4 t3 g3 hl N 0 (-2) 0 0 (-2) 0 (by omega) (by omega)
    have l : ∀ n : Int, 0 ≤ n ∧ n ≤ 3 → p ≠ n → ¬ iz p = iz n := fun n hn q z => q ((iz_eq (by omega)).mp z)
    by_cases p0 : p = 0
    · subst p0
      obtain ⟨v, v1, v2⟩ := pk (iz 0)
      exact ⟨v, T, bindE (shelfT c) (iteFE b2iT (bindE w1 (iteFE b2iT (b2E ex (iteTE (by decide) (iteTE rfl (bindE v2 rfl))))))), bindE (shelfT c) (iteFE b2iT (bindE w2 (iteFE b2iT (bindE em (iteTE (by decide) v1))))), rT⟩
    by_cases p1 : p = 1
    · subst p1
      obtain ⟨v, v1, v2⟩ := pk (iz 1)
      refine ⟨v, T, bindE (shelfT c) (iteFE b2iT (bindE w1 (iteFE b2iT (b2E ex (iteTE (by decide) (iteFE (by decide) (iteFE (by decide) (iteFE (by decide) (bindE ?_ rfl))))))))), bindE (shelfT c) (iteFE b2iT (bindE w2 (iteFE b2iT (bindE em (iteTE (by decide) v1))))), rT⟩
      exact v2
    by_cases p2 : p = 2
    · subst p2
      obtain ⟨v, v1, v2⟩ := pk (iz 2)
      refine ⟨v, T, bindE (shelfT c) (iteFE b2iT (bindE w1 (iteFE b2iT (b2E ex (iteTE (by decide) (iteFE (by decide) (iteFE (by decide) (iteTE (by decide) (bindE ?_ rfl))))))))), bindE (shelfT c) (iteFE b2iT (bindE w2 (iteFE b2iT (bindE em (iteTE (by decide) v1))))), rT⟩
      exact v2
    · obtain rfl : p = 3 := by omega
      obtain ⟨v, v1, v2⟩ := pk (iz 3)
      exact ⟨v, T, bindE (shelfT c) (iteFE b2iT (bindE w1 (iteFE b2iT (b2E ex (iteTE (by decide) (iteFE (by decide) (iteTE rfl (bindE v2 rfl)))))))), bindE (shelfT c) (iteFE b2iT (bindE w2 (iteFE b2iT (bindE em (iteTE (by decide) v1))))), rT⟩
  have em : m_noRow M (iz s) 1 = some (iz (-12)) := by
    unfold m_noRow
    exact chkE rfl (by omega) (iteFE nm1 (chkE rfl (by omega) (iteFE (fun q => d1 ((lit 1 (by omega)).mp q)) rfl)))
  have ex : x_layPaper N X (iz s) = some (iz (-12), xI X 26 0) := by
    unfold x_layPaper
    rw [nm_eq]
    by_cases d2 : 5 ≤ ma M 41 s
    · obtain ⟨b, k, a, o, q1, q2, q3, q4, q5, q6, q7, q8, q9⟩ := e1.body h8 d2
      refine chkE rfl (by omega) (onlS (by rw [ez]; exact q4) (bindE q5 (iteFE (by omega) (iteTE ?_ rfl))))
      simp only [List.mem_cons, List.not_mem_nil]; omega
    · obtain ⟨k', k4, hk'⟩ := e1.ge.2 (by omega) (by have := e1.ge.1; omega)
      obtain ⟨a, b, y, g1, g2, g3, g4, g5⟩ := e1.row hk' k4
      obtain ⟨x, x1, x2, -⟩ := rowZ_ex g2
      refine chkE rfl (by omega) (onlS (by rw [ez]; exact g1) (bindE x1 (iteFE (by omega) (iteTE ?_ rfl))))
      simp only [List.mem_cons, List.not_mem_nil]; omega
  exact ⟨iz (-12), _, bindE (shelfT c) (iteFE b2iT (bindE w1 (iteFE b2iT (b2E ex (iteFE (by decide) rfl))))), bindE (shelfT c) (iteFE b2iT (bindE w2 (iteFE b2iT (bindE em (iteFE (by decide) rfl))))), rs⟩
