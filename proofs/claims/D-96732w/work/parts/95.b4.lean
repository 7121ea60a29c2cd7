/-! PLAIN LAW: back to the image. Own text. -/
set_option maxRecDepth 100000
theorem sA_self {M : MS} {k j : Nat} {v : Int32} (h : M.2.1 k j = v) : sA M k j v = M := by
  have e : (sA M k j v).2.1 = M.2.1 := by
    funext k' j'
    rw [sA21]
    by_cases c : k' = k
    · rw [if_pos c]
      by_cases d : j' = j
      · rw [if_pos d, c, d, h]
      · rw [if_neg d, c]
    · rw [if_neg c]
  show (M.1, (sA M k j v).2.1, M.2.2) = M
  rw [e]
theorem RP_step {X : XS} {M : MS} (h : RP X M) {p a : Nat} {o : XO} (hp : (p : Int) < mi M 0) (ha : X.2.2.1 0 p = some a) (ho : X.2.2.2 a = some o) {v : Int} (hv : -2147483648 ≤ v ∧ v ≤ 2147483647) : RP (xO X a (oI o 4 (iz v))) (sA M 26 p (iz v)) := by
  refine RP_dents h hp ha ho (fun _ _ => rfl) rfl (fun b => rfl) rfl (fun k hk => ?_) (fun j => ?_)
  · funext i
    rw [sA21, if_neg (by omega)]
  · rw [ma_sA _ _ _ hv, if_pos rfl]
theorem back_l (N r s k : Nat) (K : Int) : ∀ (d i : Nat) (X : XS) (M : MS), i + d = k → RP X M → mi M 0 = k → X.1 37 = iz K → M.1 29 = iz K → (0 ≤ K ∧ K ≤ k) → (∀ p : Nat, (p : Int) < K → X.2.1 36 p = M.2.1 32 p) → ∃ (X' : XS) (M' : MS), x_back_b12 N (d + r) X (iz i) = x_back_b12 N r X' (iz k) ∧ m_back_b28 N (d + s) M (iz i) = m_back_b28 N s M' (iz k) ∧ RP X' M' ∧ X'.1 = X.1 ∧ X'.2.1 = X.2.1 ∧ X'.2.2.1 = X.2.2.1 ∧ (∀ (b : Nat) (o : XO), X.2.2.2 b = some o → o.1 ≠ 3 → X'.2.2.2 b = some o) ∧ M'.1 = M.1 ∧ (∀ j, j ≠ 26 → M'.2.1 j = M.2.1 j) ∧ M'.2.2 = M.2.2 := by
  intro d
  induction d with
  | zero =>
    intro i X M hi h hk e1 e2 hK e3
    obtain rfl : i = k := by omega
    exact ⟨X, M, by rw [Nat.zero_add], by rw [Nat.zero_add], h, rfl, rfl, rfl, fun _ _ q _ => q, rfl, fun _ _ => rfl, rfl⟩
  | succ d ih =>
    intro i X M hi h hk e1 e2 hK e3
    have k9 := h.1.2
    obtain ⟨a, o, q1, q2, q3, -⟩ := getP h (p := i) (by omega)
    rw [Int.toNat_natCast] at q1
    have q5 := (getO_some q2).1
    have ni : iz i + 1 = iz ((i + 1 : Nat) : Int) := by rw [show (1 : Int32) = iz 1 from rfl, iz_add]; rfl
    obtain ⟨v, hv, ev⟩ := izE (if K ≤ i then 0 else M.2.1 32 i)
    obtain ⟨X', M', g1, g2, g3, g4, g5, g6, g7, g8, g9, g10⟩ := ih (i + 1) (xO X a (oI o 4 (iz v))) (sA M 26 i (iz v)) (by omega) (RP_step h (by omega) q1 q5 hv) hk e1 e2 hK (fun p hp => by rw [sA21, if_neg (by decide)]; exact e3 p hp)
    refine ⟨X', M', ?_, ?_, g3, g4, g5, g6, fun b u hu ht => g7 b u (xO_keep (tag3 q5 q3) hu ht) ht, g8, fun j hj => ?_, g10⟩
    · rw [show d + 1 + r = (d + r) + 1 by omega, x_back_b12]
      refine iteFE (by rw [h.1.1, hk, iz_le (by omega)]; omega) (chkE rfl (by omega) (bindE (by rw [iz_clampN (by omega)]; exact q1) ?_))
      simp only [nm_eq]
      rw [ni]
      by_cases c : K ≤ i
      · rw [if_pos c] at ev
        exact iteTE (by rw [e1, iz_le (by omega)]; exact c) (bindE q2 (by rw [ev]; exact g1))
      · rw [if_neg c] at ev
        refine iteFE (by rw [e1, iz_le (by omega)]; exact c) (chkE rfl (by omega) (bindE q2 ?_))
        rw [iz_clampN (by omega), e3 i (by omega), ev]
        exact g1
    · rw [show d + 1 + s = (d + s) + 1 by omega, m_back_b28]
      refine iteFE (by rw [show (9 : Int32) = iz 9 from rfl, iz_le (by omega)]; omega) ?_
      simp only [nm_eq]
      rw [ni, iz_clampN (by omega)]
      by_cases c : K ≤ i
      · rw [if_pos c] at ev
        exact iteTE (by rw [e2, iz_le (by omega)]; exact c) (chkE rfl (by omega) (by rw [ev]; exact g2))
      · rw [if_neg c] at ev
        refine iteFE (by rw [e2, iz_le (by omega)]; exact c) (chkE rfl (by omega) (chkE rfl (by omega) ?_))
        rw [ev]
        exact g2
    · rw [g9 j hj]
      funext i'
      rw [sA21, if_neg hj]
theorem back_m (N s : Nat) (K : Int) : ∀ (d i : Nat) (M : MS), i + d = 9 → M.1 29 = iz K → (0 ≤ K ∧ K ≤ i) → (∀ p : Nat, i ≤ p → p < 9 → ma M 26 p = 0) → m_back_b28 N (d + (s + 1)) M (iz i) = m_back_b66 N N M 0 := by
  intro d
  induction d with
  | zero =>
    intro i M hi e2 hK hz
    rw [Nat.zero_add, m_back_b28]
    exact iteTE (by rw [show (9 : Int32) = iz 9 from rfl, iz_le (by omega)]; omega) rfl
  | succ d ih =>
    intro i M hi e2 hK hz
    have ni : iz i + 1 = iz ((i + 1 : Nat) : Int) := by rw [show (1 : Int32) = iz 1 from rfl, iz_add]; rfl
    rw [show d + 1 + (s + 1) = (d + (s + 1)) + 1 by omega, m_back_b28]
    refine iteFE (by rw [show (9 : Int32) = iz 9 from rfl, iz_le (by omega)]; omega) (iteTE (by rw [e2, iz_le (by omega)]; omega) (chkE rfl (by omega) ?_))
    simp only [nm_eq]
    rw [ni, iz_clampN (by omega), sA_self (by rw [ma_eq, hz i (by omega) (by omega)]; rfl)]
    exact ih (i + 1) M (by omega) e2 (by omega) (fun p h1 h2 => hz p (by omega) h2)
theorem back_c (N : Nat) (M : MS) : ∀ (n i : Nat) (T : MS), i ≤ 4 → 4 - i < n → T.1 = M.1 → T.2.2 = M.2.2 → (∀ k, k ≠ 27 → T.2.1 k = M.2.1 k) → (∀ p, p < i → T.2.1 27 p = M.2.1 33 p) → ∃ T' : MS, m_back_b66 N n T (iz i) = some (M.1 25, T') ∧ T'.1 = M.1 ∧ T'.2.2 = M.2.2 ∧ (∀ k, k ≠ 27 → T'.2.1 k = M.2.1 k) ∧ ∀ p, p < 4 → T'.2.1 27 p = M.2.1 33 p := by
  intro n
  induction n with
  | zero => intro i T h1 h2; omega
  | succ n ih =>
    intro i T h1 h2 h3 h4 h5 h6
    rw [m_back_b66]
    have e4 : (4 ≤ iz i) ↔ 4 ≤ i := by rw [show (4 : Int32) = iz 4 from rfl, iz_le (by omega)]; omega
    by_cases c : 4 ≤ i
    · exact ⟨T, iteTE (e4.mpr c) (by rw [h3]), h3, h4, h5, fun p hp => h6 p (by omega)⟩
    · have ni : iz i + 1 = iz ((i + 1 : Nat) : Int) := by rw [show (1 : Int32) = iz 1 from rfl, iz_add]; rfl
      obtain ⟨T', g1, g⟩ := ih (i + 1) (sA T 27 i (T.2.1 33 i)) (by omega) (by omega) h3 h4 (fun k hk => by
        rw [← h5 k hk]
        funext j
        rw [sA21, if_neg hk]) (fun p hp => by
        rw [sA21, if_pos rfl]
        by_cases cp : p = i
        · rw [if_pos cp, cp, h5 33 (by decide)]
        · rw [if_neg cp]; exact h6 p (by omega))
      refine ⟨T', iteFE (fun q => c (e4.mp q)) (chkE rfl (by omega) (chkE rfl (by omega) ?_)), g⟩
      simp only [nm_eq]
      rw [ni, iz_clampN (by omega)]
      exact g1
theorem law_back {X : XS} {M : MS} (h : R X M) {N : Nat} (hN : 100 ≤ N) : same (x_back N X) (m_back N M) := by
  have hR := h
  obtain ⟨h1, h2, h3, h4, h5, h6, h7, h8, h9⟩ := h
  unfold x_back m_back
  by_cases c : M.1 28 = 0
  · exact ⟨_, _, _, iteTE (by rw [h6.1]; exact c) rfl, iteTE c rfl, hR⟩
  obtain ⟨⟨i1, i2, i3⟩, ⟨j1, j2, j3⟩, ⟨k1, k2, k3⟩, ⟨l1, l2, l3, l4⟩, i7⟩ := h6.2 c
  have k9 := h1.1.2
  obtain ⟨k, hk⟩ : ∃ k : Nat, mi M 0 = k := ⟨(mi M 0).toNat, by omega⟩
  have r1 : RP X (sI (sI M 24 (M.1 30)) 25 (M.1 31)) := h1.cg rfl rfl rfl rfl rfl rfl (fun _ _ q _ => q) rfl rfl rfl rfl rfl rfl rfl
  obtain ⟨X', M', g1, g2, g3, g4, g5, g6, g7, g8, g9, g10⟩ := back_l N (N - k) (N - k) k (mi M 29) k 0 X (sI (sI M 24 (M.1 30)) 25 (M.1 31)) (by omega) r1 (by rw [show mi (sI (sI M 24 (M.1 30)) 25 (M.1 31)) 0 = mi M 0 from rfl, hk]) i1 (mi_eq M 29) (by omega) i7
  have m0 : mi M' 0 = k := by rw [← hk]; unfold mi; rw [g8]; rfl
  have g2' : m_back_b28 N (9 - k + ((N - 10) + 1)) M' (iz k) = m_back_b66 N N M' 0 := back_m N (N - 10) (mi M 29) (9 - k) k M' (by omega) (by rw [g8]; exact mi_eq M 29) (by omega) (fun p p1 p2 => g3.2.2.2.2.2.2 p (by omega) p2)
  obtain ⟨Z, z1, z2, z3, z4, z5⟩ := back_c N M' N 0 M' (by omega) (by omega) rfl rfl (fun _ _ => rfl) (fun p hp => by omega)
  have x37 : X'.1 = X.1 := g4
  have hx : x_back_b12 N N X 0 = some (X.1 39, xI (xI (xI (xI (xI (xI X' 29 (X.1 38)) 30 (X.1 39)) 31 (X.1 40)) 32 (X.1 41)) 33 (X.1 42)) 34 (X.1 43)) := by
    have g1' := g1
    rw [show k + (N - k) = N by omega] at g1'
    refine g1'.trans ?_
    rw [show N - k = (N - k - 1) + 1 by omega, x_back_b12]
    refine iteTE (by rw [g3.1.1, m0]; exact Int32.le_refl _) ?_
    simp only [nm_eq, xI1, Nat.reduceEqDiff, if_false, if_true, g4]
  have hm : m_back_b28 N N (sI (sI M 24 (M.1 30)) 25 (M.1 31)) 0 = some (M.1 31, Z) := by
    have g1' := g2
    rw [show k + (N - k) = N by omega] at g1'
    refine g1'.trans ?_
    rw [show N - k = 9 - k + ((N - 10) + 1) by omega, g2']
    refine z1.trans ?_
    rw [g8]; rfl
  refine ⟨M.1 31, _, Z, iteFE (by rw [h6.1]; exact c) (hx.trans (by rw [k1, ← mi_eq])), iteFE c ?_, ?_⟩
  · simp only [nm_eq]
    exact hm
  have mz : ∀ j, j ≠ 24 → j ≠ 25 → Z.1 j = M.1 j := fun j j1 j2 => by rw [z2, g8, sI1, if_neg j2, sI1, if_neg j1]
  have mz2 : ∀ j, j ≠ 26 → j ≠ 27 → Z.2.1 j = M.2.1 j := fun j j1 j2 => by rw [z4 j j2, g9 j j1]; rfl
  have zl : Z.2.2 = M.2.2 := by rw [z3, g10]; rfl
  have eo : ∀ (b : Nat) (o : XO), X.2.2.2 b = some o → o.1 ≠ 3 → X'.2.2.2 b = some o := g7
  have er : ∀ r, X'.2.2.1 r = X.2.2.1 r := fun r => by rw [g6]
  have ea : ∀ r, X'.2.1 r = X.2.1 r := fun r => by rw [g5]
  have e1 : ∀ j, X'.1 j = X.1 j := fun j => by rw [g4]
  have le0 : mi M 0 ≤ mi Z 0 := by rw [mi_cg (mz 0 (by decide) (by decide))]; omega
  have g3' : RP X' Z := by
    have e26 : Z.2.1 26 = M'.2.1 26 := z4 26 (by decide)
    exact g3.cg rfl rfl rfl rfl rfl rfl (fun _ _ q _ => q) (by rw [z2]) (z4 1 (by decide)) (z4 2 (by decide)) (z4 3 (by decide)) (z4 4 (by decide)) (z4 5 (by decide)) e26
  refine ⟨?_, ?_, ?_, ?_, ?_, ?_, ?_, ?_, ?_⟩
  · exact g3'.cg rfl rfl rfl rfl rfl rfl (fun _ _ q _ => q) rfl rfl rfl rfl rfl rfl rfl
  · exact h2.cg (e1 7) (e1 8) (er 6) (fun a o q t => eo a o q (by omega)) le0 (mz 34 (by decide) (by decide)) (mz 35 (by decide) (by decide)) (mz2 36 (by decide) (by decide))
  · exact h3.cg (e1 10) (ea 9) (mz 6 (by decide) (by decide)) (mz2 7 (by decide) (by decide))
  · exact h4.cg (er 11) (fun a o q t => eo a o q (by omega)) (mz 8 (by decide) (by decide)) (mz 9 (by decide) (by decide)) (mz2 10 (by decide) (by decide)) (mz2 11 (by decide) (by decide)) (mz2 12 (by decide) (by decide)) (mz2 13 (by decide) (by decide))
  · have m24 : Z.1 24 = M.1 30 := by rw [z2, g8]; rfl
    have m25 : Z.1 25 = M.1 31 := by rw [z2, g8]; rfl
    have i24 : mi Z 24 = mi M 30 := by unfold mi; rw [m24]
    have i25 : mi Z 25 = mi M 31 := by unfold mi; rw [m25]
    have i0 : mi Z 0 = mi M 0 := mi_cg (mz 0 (by decide) (by decide))
    have z33 : ∀ j, j < 4 → Z.2.1 27 j = M.2.1 33 j := fun j hj => by rw [z5 j hj, g9 33 (by decide)]; rfl
    unfold RA
    rw [i24, i25, i0, z33 0 (by omega), z33 1 (by omega), z33 2 (by omega), z33 3 (by omega)]
    exact ⟨⟨j1, j2, j3⟩, ⟨mi_eq M 31, k2, k3⟩, l1, l2, l3, l4⟩
  · exact h6.cg (e1 35) (e1 37) (e1 38) (e1 39) (e1 40) (e1 41) (e1 42) (e1 43) (ea 36) le0 (mz 28 (by decide) (by decide)) (mz 29 (by decide) (by decide)) (mz 30 (by decide) (by decide)) (mz 31 (by decide) (by decide)) (mz2 32 (by decide) (by decide)) (mz2 33 (by decide) (by decide))
  · exact h7.cg (e1 44) (ea 45) (mz 39 (by decide) (by decide)) (mz2 40 (by decide) (by decide))
  · exact h8.cg (e1 47) (er 46) (fun a o q t => eo a o q (by omega)) (mz 37 (by decide) (by decide)) (mz2 38 (by decide) (by decide))
  · exact h9.cg (er 48) (er 46) (fun a o q t => eo a o q (by omega)) (mz 37 (by decide) (by decide)) (mz2 41 (by decide) (by decide)) (mz2 42 (by decide) (by decide)) zl
