/-! PLAIN LAW: law. Own text. -/
set_option maxRecDepth 100000
theorem b151_ok {N : Nat} {cd : Nat} (hc : cd ≤ 120) : ∀ (fu j : Nat) (T : MS), T.1 16 = iz cd → j ≤ cd → cd - j < fu → ∃ M', m_law_b151 N fu T (iz j) = some (1, M') ∧ M'.1 = T.1 ∧ M'.2.2 = T.2.2 ∧ (∀ r, r ≠ 13 → M'.2.1 r = T.2.1 r) ∧ ∀ k, k < cd → ma M' 13 k = if j ≤ k then ma T 21 k else ma T 13 k := by
  intro fu
  induction fu with
  | zero => intro j T _ _ h; omega
  | succ fu ih =>
    intro j T h16 hj hf
    rw [m_law_b151]
    by_cases c : cd ≤ j
    · refine ⟨T, iteTE (by rw [h16, iz_le (by omega)]; omega) rfl, rfl, rfl, fun _ _ => rfl, fun k hk => by rw [if_neg (by omega)]⟩
    · obtain ⟨M', e1, e2, e3, e4, e5⟩ := ih (j + 1) (sA T 13 j (T.2.1 21 j)) h16 (by omega) (by omega)
      refine ⟨M', iteFE (by rw [h16, iz_le (by omega)]; omega) (chkE rfl (by omega) (chkE rfl (by omega) ?_)), e2, e3, fun r hr => (e4 r hr).trans (sA_oth _ _ _ hr), fun k hk => ?_⟩
      · rw [nmE, nmE, iz_clampN (by omega), show (1 : Int32) = iz 1 from rfl, iz_add]
        exact e1
      · rw [e5 k hk, ma_cg (sA_oth T j (T.2.1 21 j) (r := 13) (r' := 21) (by decide))]
        by_cases c1 : j + 1 ≤ k
        · rw [if_pos c1, if_pos (by omega)]
        · rw [if_neg c1]
          by_cases c2 : k = j
          · subst c2
            rw [if_pos (Nat.le_refl _), ma_eq T 21 k, ma_sA _ _ _ (ma_R T 21 k), if_pos rfl, if_pos rfl]
          · rw [if_neg (by omega), ma_eq T 21 j, ma_sA _ _ _ (ma_R T 21 j), if_pos rfl, if_neg c2]
theorem b99_ok {N : Nat} (hN : 200 ≤ N) {cd L : Nat} (hc : cd ≤ 120) (hL : L ≤ 60) : ∀ (fu j : Nat) (T : MS), T.1 16 = iz cd → T.1 9 = iz L → j ≤ L → L - j < fu → ∃ M', m_law_b99 N fu T (iz j) = some (1, M') ∧ M'.1 = T.1 ∧ M'.2.2 = T.2.2 ∧ (∀ r, r ≠ 10 → r ≠ 11 → r ≠ 12 → r ≠ 13 → M'.2.1 r = T.2.1 r) ∧ (∀ k, k < L → (ma M' 10 k = if j ≤ k then ma T 18 k else ma T 10 k) ∧ (ma M' 11 k = if j ≤ k then ma T 19 k else ma T 11 k) ∧ (ma M' 12 k = if j ≤ k then ma T 20 k else ma T 12 k)) ∧ ∀ k, k < cd → ma M' 13 k = ma T 21 k := by
  intro fu
  induction fu with
  | zero => intro j T _ _ _ h; omega
  | succ fu ih =>
    intro j T h16 h9 hj hf
    rw [m_law_b99]
    by_cases c : L ≤ j
    · obtain ⟨M', e1, e2, e3, e4, e5⟩ := b151_ok (N := N) hc N 0 T h16 (by omega) (by omega)
      refine ⟨M', iteTE (by rw [h9, iz_le (by omega)]; omega) e1, e2, e3, fun r _ _ _ h => e4 r h, fun k hk => ?_, fun k hk => by rw [e5 k hk, if_pos (by omega)]⟩
      rw [if_neg (by omega), if_neg (by omega), if_neg (by omega), ma_cg (e4 10 (by decide)), ma_cg (e4 11 (by decide)), ma_cg (e4 12 (by decide))]
      exact ⟨rfl, rfl, rfl⟩
    · obtain ⟨M', e1, e2, e3, e4, e5, e6⟩ := ih (j + 1) (sA (sA (sA T 10 j (T.2.1 18 j)) 11 j (T.2.1 19 j)) 12 j (T.2.1 20 j)) h16 h9 (by omega) (by omega)
      have o : ∀ r, r ≠ 10 → r ≠ 11 → r ≠ 12 → (sA (sA (sA T 10 j (T.2.1 18 j)) 11 j (T.2.1 19 j)) 12 j (T.2.1 20 j)).2.1 r = T.2.1 r := fun r a b c => ((sA_oth _ _ _ c).trans (sA_oth _ _ _ b)).trans (sA_oth _ _ _ a)
      refine ⟨M', iteFE (by rw [h9, iz_le (by omega)]; omega) (chkE rfl (by omega) (chkE rfl (by omega) ?_)), e2, e3, fun r a b c d => (e4 r a b c d).trans (o r a b c), fun k hk => ?_, fun k hk => by rw [e6 k hk, ma_cg (o 21 (by decide) (by decide) (by decide))]⟩
      · rw [nmE, iz_clampN (by omega)]
        refine chkE rfl (by omega) (chkE rfl (by omega) ?_)
        rw [nmE]
        refine chkE rfl (by omega) (chkE rfl (by omega) ?_)
        rw [nmE, nmE, show (1 : Int32) = iz 1 from rfl, iz_add]
        exact e1
      · obtain ⟨f1, f2, f3⟩ := e5 k hk
        rw [f1, f2, f3, ma_cg (o 18 (by decide) (by decide) (by decide)), ma_cg (o 19 (by decide) (by decide) (by decide)), ma_cg (o 20 (by decide) (by decide) (by decide))]
        rw [ma_cg (sA_oth (sA (sA T 10 j (T.2.1 18 j)) 11 j (T.2.1 19 j)) j (T.2.1 20 j) (r := 12) (r' := 10) (by decide)), ma_cg (sA_oth (sA T 10 j (T.2.1 18 j)) j (T.2.1 19 j) (r := 11) (r' := 10) (by decide)), ma_cg (sA_oth (sA (sA T 10 j (T.2.1 18 j)) 11 j (T.2.1 19 j)) j (T.2.1 20 j) (r := 12) (r' := 11) (by decide))]
        rw [ma_eq T 18 j, ma_sA _ _ _ (ma_R T 18 j), ma_eq T 19 j, ma_sA _ _ _ (ma_R T 19 j), ma_eq T 20 j, ma_sA _ _ _ (ma_R T 20 j)]
        rw [ma_cg (sA_oth T j (iz (ma T 18 j)) (r := 10) (r' := 11) (by decide)), ma_cg (sA_oth (sA T 10 j (iz (ma T 18 j))) j (iz (ma T 19 j)) (r := 11) (r' := 12) (by decide)), ma_cg (sA_oth T j (iz (ma T 18 j)) (r := 10) (r' := 12) (by decide))]
        simp only [if_true]
        by_cases c1 : j + 1 ≤ k
        · have : j ≤ k := by omega
          simp only [if_pos c1, if_pos this]; exact ⟨trivial, trivial, trivial⟩
        · by_cases c2 : k = j
          · subst c2
            simp only [if_neg c1, if_pos (Nat.le_refl _), if_true]; exact ⟨trivial, trivial, trivial⟩
          · have : ¬ j ≤ k := by omega
            simp only [if_neg c1, if_neg this, if_neg c2]; exact ⟨trivial, trivial, trivial⟩
section LAW
variable {M : MS} {n a0 : Nat} {N : Nat}
def LawEnd (M : MS) (n : Nat) (N : Nat) (x : Option (Int32 × MS)) (a0 : Nat) (oX : rO) (X : XS) : Prop :=
  (∃ (S' : MS) (cd' L' : Nat), x = m_law_b66 N S' 1 ∧ KL M S' ∧ S'.1 16 = iz cd' ∧ cd' ≤ 120 ∧ S'.1 17 = iz L' ∧ (1 ≤ L' ∧ L' ≤ 60) ∧ ∀ (Q : rQ) (m : Nat) (T : XS), 900 ≤ m → Old X T → RdX M n a0 T 0 (-1) 0 → (∀ (T' : XS) (A' : Nat → Nat), Old X T' → RdX M n a0 T' n (-1) 0 → Chn T' S' cd' L' A' → Q (some (A' 0)) T') → r_lines Q oX N a0 m T) ∨
  (∃ (S' : MS) (at' : Nat), x = m_law_b66 N S' 0 ∧ KL M S' ∧ S'.1 14 = iz at' ∧ at' ≤ n ∧ ∀ (Q : rQ) (m : Nat) (T : XS), 900 ≤ m → Old X T → RdX M n a0 T 0 (-1) 0 → (∀ (g : Option Nat) (T' : XS) (at2 op2 : Nat), Old X T' → RdX M n a0 T' at2 at' op2 → Q g T') → r_lines Q oX N a0 m T)
theorem law_core (ht : Tape M n) (h6 : M.1 6 = iz n) (hN : 200 ≤ N) {X : XS} (hX0 : X.2.2.2 a0 = none) : LawEnd M n N (m_law N M) a0 (r_op N 8) X := by
  have n120 := ht.2.1
  have ho : ∀ (S : MS) (at_ cd : Nat), MRd M n S at_ 0 cd → SSpec M n a0 (m_isO N 10) (fun Q m T => r_op N 8 Q a0 m T) S at_ 0 cd := fun S at_ cd hS => operand ht hN 8 0 (by decide) S at_ cd hS
  have k1 : KP M (sI (sI (sI M 14 0) 15 0) 16 0) := (((KP.rf M).set (Or.inl rfl) _).set (Or.inr (Or.inl rfl)) _).set (Or.inr (Or.inr rfl)) _
  have kl : KL M (sI (sI (sI (sI M 14 0) 15 0) 16 0) 17 0) := k1.kl.set _
  have hS : MRd M n (sI (sI (sI (sI M 14 0) 15 0) 16 0) 17 0) 0 0 0 := ⟨h6, rfl, rfl, rfl, rfl, Nat.zero_le _, Nat.le_refl _, by decide⟩
  obtain ⟨b, ok, at1, cd1, S1, g1, ⟨g2, g3, g4, g5, g6, g7⟩, g8⟩ := line_spec (a0 := a0) (N := N) (oX := r_op N 8) ht hN ho hS (i := 0) rfl (by decide)
  have hm : m_law N M = m_law_b25 N N S1 (b2i b) := by
    unfold m_law
    rw [nmE, nmE, nmE, nmE]
    exact b2E g1 rfl
  obtain ⟨N', hN'⟩ : ∃ g, N = g + 1 := ⟨N - 1, by omega⟩
  have hr : ∀ (Q : rQ) (m : Nat) (T : XS), 900 ≤ m → Old X T → RdX M n a0 T 0 (-1) 0 → (∀ (T8 : XS) (q : Nat) (m : Nat), 500 ≤ m → Old X T8 → X.2.2.2 q = none → LnOut M n a0 S1 0 cd1 ok at1 T8 q → r_lines_b7 Q (r_op N 8) N a0 (some q) N m T8 (some q)) → r_lines Q (r_op N 8) N a0 m T := fun Q m T hm hO hT hQ => by
    obtain ⟨ro, r1, r2, -⟩ := hT.ob
    refine bindPE r2 ⟨1 + (at1 - 0), m - (1 + (at1 - 0)), by omega, g8 _ _ _ hT (Nat.le_refl _) (fun T8 q hq hE hOut => ?_)⟩
    exact hQ T8 q _ (by omega) (hO.ext hE hX0) (hO.non hq) hOut
  by_cases hok : ok = false
  · have fin : ∀ x : Option (Int32 × MS), x = m_law_b66 N S1 0 → LawEnd M n N x a0 (r_op N 8) X := fun x hx => by
      refine Or.inr ⟨S1, at1, hx, kl.tr g2, g3, by omega, fun Q m T hm hO hT hQ => hr Q m T hm hO hT (fun T8 q m _ hO8 hXq hOut => ?_)⟩
      rcases hOut with ⟨y, -⟩ | ⟨-, at2, op2, hX⟩
      · rw [hok] at y; cases y
      · have key : ∀ K : Nat, r_lines_b7 Q (r_op N 8) N a0 (some q) (K + 1) m T8 (some q) := fun K => b7_F (by omega) hX (hQ _ _ at2 op2 hO8 hX)
        have := key N'
        rw [← hN'] at this
        exact this
    have b25 : ∀ (K : Nat) (r : Option (Int32 × MS)), (∀ K, m_law_b25 N (K + 1) S1 (b2i b) = r) → m_law_b25 N N S1 (b2i b) = r := fun K r h => by
      have := h N'
      rw [← hN'] at this
      exact this
    by_cases hb : b = false
    · refine fin _ (hm.trans (b25 0 _ (fun K => ?_)))
      rw [hb, m_law_b25]
      exact iteTE b2iF (iteTE b2iF rfl)
    · have hb' : b = true := by cases b with
        | false => exact absurd rfl hb
        | true => rfl
      have dg := g6 hb' hok
      obtain ⟨q1, q2, q3, q4, q5, q6⟩ := g5 hb'
      have at1n := (ch_R ht at1).2.2.2.2 (by omega)
      refine fin _ (hm.trans (b25 0 _ (fun K => ?_)))
      rw [m_law_b25]
      refine iteFE (b2iT' hb') (b2E (m_isF ht q2 (c := 59) (by omega) (by omega)) (iteTE b2iF (iteFE (b2iT' hb') (iteFE ?_ rfl))))
      rw [q2.1, g3, iz_eq (by omega)]; omega
  have hok' : ok = true := by cases ok with
    | false => exact absurd rfl hok
    | true => rfl
  have hb' := g7 hok'
  obtain ⟨q1, q2, q3, q4, q5, q6⟩ := g5 hb'
  have e1 : m_law N M = m_law_b25 N N S1 1 := by rw [hm, hb']; rfl
  rw [e1]
  have key := lines_loop (N := N) hX0 ht hN ho N S1 at1 cd1 1 q2 q3 (Nat.le_refl _) (by omega) (by omega)
  have comp : ∀ Q : rQ, Cmp X M n a0 at1 S1 cd1 1 (fun hd Q m T l => r_lines_b7 Q (r_op N 8) N a0 (some hd) N m T l) (2 * (n - at1)) Q → ∀ (m : Nat) (T : XS), 900 ≤ m → Old X T → RdX M n a0 T 0 (-1) 0 → r_lines Q (r_op N 8) N a0 m T := fun Q hC m T hm hO hT => hr Q m T hm hO hT (fun T8 q m hm8 hO8 hXq hOut => by
    rcases hOut with ⟨y, hX, hln⟩ | ⟨y, -⟩
    · exact hC m T8 (fun _ => q) (by omega) hO8 hXq hX (fun i hi => by
        have : i = 0 := by omega
        subst this
        exact hln)
    · exact absurd y hok)
  rcases key with ⟨S', cd', L', y1, y2, y3, y4, y5, y6, y7⟩ | ⟨S', at', y1, y2, y3, y4, y5⟩
  · exact Or.inl ⟨S', cd', L', y1, (kl.tr g2).tr y2, y3, y4, y5, y6, fun Q m T hm hO hT hQ => comp Q (y7 Q hQ) m T hm hO hT⟩
  · exact Or.inr ⟨S', at', y1, (kl.tr g2).tr y2, y3, y4, fun Q m T hm hO hT hQ => comp Q (y5 Q hQ) m T hm hO hT⟩
/-- behind the reading -/
theorem b66_bad {S' : MS} {at' : Nat} (h : S'.1 14 = iz at') : m_law_b66 N S' 0 = some (iz (-100 - (at' : Int)), sI S' 6 0) := by
  unfold m_law_b66
  rw [nmE]
  refine iteTE rfl ?_
  show some (-100 - S'.1 14, sI S' 6 0) = _
  rw [h, show (-100 : Int32) = iz (-100) from rfl, iz_sub]
theorem b66_ok (hN : 200 ≤ N) {S' : MS} {cd L : Nat} (hc : cd ≤ 120) (hL : L ≤ 60) (h16 : S'.1 16 = iz cd) (h17 : S'.1 17 = iz L) : ∃ M', m_law_b66 N S' 1 = some (1, M') ∧ M'.1 6 = iz 0 ∧ M'.1 8 = iz 1 ∧ M'.1 9 = iz L ∧ (∀ k, k ≠ 6 → k ≠ 8 → k ≠ 9 → M'.1 k = S'.1 k) ∧ M'.2.2 = S'.2.2 ∧ (∀ r, r ≠ 10 → r ≠ 11 → r ≠ 12 → r ≠ 13 → M'.2.1 r = S'.2.1 r) ∧ (∀ k, k < L → ma M' 10 k = ma S' 18 k ∧ ma M' 11 k = ma S' 19 k ∧ ma M' 12 k = ma S' 20 k) ∧ ∀ k, k < cd → ma M' 13 k = ma S' 21 k := by
  obtain ⟨M', e1, e2, e3, e4, e5, e6⟩ := b99_ok hN hc hL N 0 (sI (sI (sI S' 6 0) 8 1) 9 (iz L)) h16 rfl (by omega) (by omega)
  refine ⟨M', ?_, by rw [e2]; rfl, by rw [e2]; rfl, by rw [e2]; rfl, fun k a b c => by rw [e2, sI1, if_neg c, sI1, if_neg b, sI1, if_neg a], e3, e4, fun k hk => ?_, e6⟩
  · unfold m_law_b66
    rw [nmE]
    refine iteFE (by decide) ?_
    rw [nmE, nmE]
    show m_law_b99 N N (sI (sI (sI S' 6 0) 8 1) 9 (S'.1 17)) 0 = _
    rw [h17]
    exact e1
  · have := e5 k hk
    rw [if_pos (Nat.zero_le _), if_pos (Nat.zero_le _), if_pos (Nat.zero_le _)] at this
    exact this
end LAW
/-- the rest stands -/
theorem R_lawed {X X' : XS} {M M' : MS} (h : R X M) (e : ∀ k, k ≠ 10 → X'.1 k = X.1 k) (ea : X'.2.1 = X.2.1) (er : ∀ r, r ≠ 11 → X'.2.2.1 r = X.2.2.1 r) (eo : ∀ a o, X.2.2.2 a = some o → X'.2.2.2 a = some o)
    (m : ∀ k, k ≠ 6 → k ≠ 8 → k ≠ 9 → smI k = false → M'.1 k = M.1 k) (mm : ∀ k, k ≠ 10 → k ≠ 11 → k ≠ 12 → k ≠ 13 → smA k = false → M'.2.1 k = M.2.1 k) (ml : M'.2.2 = M.2.2) (hT : RT X' M') (hL : RL X' M') : R X' M' := by
  obtain ⟨h1, h2, h3, h4, h5, h6, h7, h8, h9'⟩ := h
  have m0 : mi M' 0 = mi M 0 := mi_cg (m 0 (by decide) (by decide) (by decide) (by decide))
  have lt : mi M 0 ≤ mi M' 0 := by omega
  have M_ : ∀ k, (k ≠ 6 ∧ k ≠ 8 ∧ k ≠ 9 ∧ smI k = false) → M'.1 k = M.1 k := fun k q => m k q.1 q.2.1 q.2.2.1 q.2.2.2
  have A_ : ∀ k, (k ≠ 10 ∧ k ≠ 11 ∧ k ≠ 12 ∧ k ≠ 13 ∧ smA k = false) → M'.2.1 k = M.2.1 k := fun k q => mm k q.1 q.2.1 q.2.2.1 q.2.2.2.1 q.2.2.2.2
  refine ⟨?_, ?_, hT, hL, ?_, ?_, ?_, ?_, ?_⟩
  · unfold RP at h1 ⊢
    obtain ⟨g1, g2, g3, g4, g5, g6, g7⟩ := h1
    rw [m0, e 1 (by decide), e 2 (by decide), e 3 (by decide), e 4 (by decide), e 5 (by decide), er 0 (by decide)]
    simp only [ma_cg (A_ 1 (by decide)), ma_cg (A_ 2 (by decide)), ma_cg (A_ 3 (by decide)), ma_cg (A_ 4 (by decide)), ma_cg (A_ 5 (by decide)), ma_cg (A_ 26 (by decide))]
    exact ⟨g1, g2, g3, fun p hp => by
      obtain ⟨a, o, q1, q2, q3⟩ := g4 p hp
      exact ⟨a, o, q1, eo a o q2, q3⟩, g5, g6, g7⟩
  · exact h2.cg (e 7 (by decide)) (e 8 (by decide)) (er 6 (by decide)) (fun a u g _ => eo a u g) lt (M_ 34 (by decide)) (M_ 35 (by decide)) (A_ 36 (by decide))
  · exact h5.cg (e 29 (by decide)) (e 30 (by decide)) (e 31 (by decide)) (e 32 (by decide)) (e 33 (by decide)) (e 34 (by decide)) lt (M_ 24 (by decide)) (M_ 25 (by decide)) (A_ 27 (by decide))
  · exact h6.cg (e 35 (by decide)) (e 37 (by decide)) (e 38 (by decide)) (e 39 (by decide)) (e 40 (by decide)) (e 41 (by decide)) (e 42 (by decide)) (e 43 (by decide)) (by rw [ea]) lt (M_ 28 (by decide)) (M_ 29 (by decide)) (M_ 30 (by decide)) (M_ 31 (by decide)) (A_ 32 (by decide)) (A_ 33 (by decide))
  · exact h7.cg (e 44 (by decide)) (by rw [ea]) (M_ 39 (by decide)) (A_ 40 (by decide))
  · exact h8.cg (e 47 (by decide)) (er 46 (by decide)) (fun a u g _ => eo a u g) (M_ 37 (by decide)) (A_ 38 (by decide))
  · exact h9'.cg (er 48 (by decide)) (er 46 (by decide)) (fun a u g _ => eo a u g) (M_ 37 (by decide)) (A_ 41 (by decide)) (A_ 42 (by decide)) ml
theorem chn_lines {T : XS} {S M' : MS} {cd L : Nat} {A : Nat → Nat} (hC : Chn T S cd L A) (hc : cd ≤ 120) (e5 : ∀ k, k < L → ma M' 10 k = ma S 18 k ∧ ma M' 11 k = ma S 19 k ∧ ma M' 12 k = ma S 20 k) (e6 : ∀ k, k < cd → ma M' 13 k = ma S 21 k) : ∀ (k i : Nat), i + k = L → linesR T M' k i (if i < L then some (A i) else none) := by
  intro k
  induction k with
  | zero => intro i hi; rw [if_neg (by omega)]; rfl
  | succ k ih =>
    intro i hi
    rw [if_pos (show i < L by omega)]
    obtain ⟨o, h1, h2, h3, s, md, en, ⟨w1, w2, w3⟩, h4, ⟨g, c, h5, h6, h7, h7b⟩, h8⟩ := hC i (by omega)
    obtain ⟨v1, v2, v3⟩ := e5 i (by omega)
    have sl : ∀ (i j : Nat) (c : List Int), slc S i j c → j ≤ cd → codeSl M' i j c := fun i j c hs hj => ⟨by have := hs.1; omega, fun k hk => by
      have hs1 := hs.1
      rw [Int.toNat_natCast, e6 _ (by omega)]; exact hs.2 k hk⟩
    refine ⟨A i, o, rfl, h1, h2, by rw [v1, v3, w1, w3]; omega, ⟨g, c, h5, h6, ?_⟩, ?_, ?_⟩
    · rw [v2, v3, w2, w3]; exact sl _ _ _ ⟨h7, h7b⟩ h4
    · rw [v1, v2, w1, w2]
      rcases h8 with ⟨y1, y2⟩ | ⟨t, c', y1, y2, y3, y4⟩
      · exact Or.inl ⟨y1, by rw [y2]⟩
      · exact Or.inr ⟨t, c', y1, y2, sl _ _ _ y3 (by omega), y4⟩
    · rw [h3]
      exact ih (i + 1) (by omega)
theorem law_x {X : XS} {M : MS} (h : R X M) {N : Nat} (hN : 1000 ≤ N) {q : Nat} (hq : X.2.2.2 q = none) : ∃ v M', m_law N M = some (v, M') ∧ (bindP (getO (xO X q (mkO 5 [0, (-1)] [])) q 5) fun _ =>
  splP 999 fun m9 _ =>
  r_lines (fun v8 T13 =>
  nmP (xI T13 10 0) fun T14 =>
  bindP (getO T14 q 5) fun q15 =>
  (if (q15.2.1 1) < 0 then
  nmP (xR T14 11 0 v8) fun T17 =>
  (1 : Int32) = v ∧ R T17 M'
  else
  bindP (getO T14 q 5) fun q18 =>
  (-100) - (q18.2.1 1) = v ∧ R T14 M')) (r_op N 8) N q m9 (xO X q (mkO 5 [0, (-1)] []))) := by
  obtain ⟨⟨t1, t2, t3⟩, t4⟩ := h.2.2.1
  obtain ⟨n, hn⟩ : ∃ n : Nat, mi M 6 = n := ⟨(mi M 6).toNat, by omega⟩
  have ht : Tape M n := ⟨hn, by omega, fun k hk => (t4 k (by omega)).1⟩
  have h6 : M.1 6 = iz n := by rw [mi_eq, hn]
  have e0 : (xO X q (mkO 5 [0, (-1)] [])).2.2.2 q = some (mkO 5 [0, (-1)] []) := by rw [xO23, if_pos rfl]
  have hRd : RdX M n q (xO X q (mkO 5 [0, (-1)] [])) 0 (-1) 0 := by
    refine ⟨by rw [← hn]; exact t1, fun k hk => ?_, mkO 5 [0, (-1)] [], e0, rfl, rfl, rfl, rfl⟩
    have := t4 k (by omega)
    show X.2.1 9 k = _
    rw [this.2, ma_eq, byte_at this.1]
    unfold cr
    rw [if_pos hk]
  have hO : Old X (xO X q (mkO 5 [0, (-1)] [])) := Old.put ⟨rfl, rfl, rfl, fun _ _ h => h⟩ hq _
  have rt0 : ∀ (X' : XS) (M' : MS), X'.1 10 = iz 0 → M'.1 6 = iz 0 → RT X' M' := fun X' M' a b => by
    have : mi M' 6 = 0 := by unfold mi; rw [b]; rfl
    unfold RT
    rw [this]
    exact ⟨⟨a, by omega, by omega⟩, fun k hk => by omega⟩
  rcases law_core (N := N) (a0 := q) ht h6 (by omega) hq with ⟨S', cd', L', y1, y2, y3, y4, y5, y6, y7⟩ | ⟨S', at', y1, y2, y3, y4, y5⟩
  · obtain ⟨M', z1, z2, z3, z4, z5, z6, z7, z8, z9⟩ := b66_ok (N := N) (by omega) y4 y6.2 y3 y5
    refine ⟨1, M', y1.trans z1, bindPE (getO_eq e0 rfl) ⟨999, 0, rfl, y7 _ _ _ (by omega) hO hRd (fun T' A' hO' hX' hC' => ?_)⟩⟩
    obtain ⟨ro, r1, r2, r3, r4, r5, r6⟩ := hX'.ob
    refine bindPE (v := ro) (getO_eq r1 r3) (iteT (by rw [r5]; decide) ⟨rfl, ?_⟩)
    refine R_lawed h (fun k hk => ?_) hO'.2.1 (fun r hr => ?_) hO'.2.2.2 (fun k a b c d => ?_) (fun k a b c d e => ?_) (z6.trans y2.2.1) (rt0 _ _ rfl z2) ?_
    · show (xI T' 10 0).1 k = _
      rw [xI1, if_neg hk, hO'.1]
    · funext j
      rw [xR22, if_neg hr]
      show T'.2.2.1 r j = _
      rw [hO'.2.2.1]
    · rw [z5 k a b c]
      exact y2.1 k (fun e => by subst e; cases d) (fun e => by subst e; cases d) (fun e => by subst e; cases d) (fun e => by subst e; cases d)
    · rw [z7 k a b c d]
      exact y2.2.2 k (fun e' => by subst e'; cases e) (fun e' => by subst e'; cases e) (fun e' => by subst e'; cases e) (fun e' => by subst e'; cases e)
    · have e9 : mi M' 9 = L' := by unfold mi; rw [z4, iz_toInt (by omega)]
      have er : (xR (xI T' 10 0) 11 0 (some (A' 0))).2.2.1 11 0 = some (A' 0) := by rw [xR22, if_pos rfl, if_pos rfl]
      refine Or.inr ⟨z3, by omega, by rw [er]; simp, ?_⟩
      rw [er, e9, Int.toNat_natCast]
      have := chn_lines hC' y4 z8 z9 L' 0 (by omega)
      rw [if_pos (by omega)] at this
      exact linesR.cg (X := T') (X' := xR (xI T' 10 0) 11 0 (some (A' 0))) (fun a o h1 _ => h1) rfl rfl rfl rfl _ _ _ this
  · refine ⟨_, _, y1.trans (b66_bad y3), bindPE (getO_eq e0 rfl) ⟨999, 0, rfl, y5 _ _ _ (by omega) hO hRd (fun g T' at2 op2 hO' hX' => ?_)⟩⟩
    obtain ⟨ro, r1, r2, r3, r4, r5, r6⟩ := hX'.ob
    have n120 := ht.2.1
    refine bindPE (v := ro) (getO_eq r1 r3) (iteF (by rw [r5, show (0 : Int32) = iz 0 from rfl, iz_lt (by omega)]; omega) (bindPE (v := ro) (getO_eq r1 r3) ⟨?_, ?_⟩))
    · rw [r5, show (-100 : Int32) = iz (-100) from rfl, iz_sub]
    refine R_lawed h (fun k hk => ?_) hO'.2.1 (fun r hr => ?_) hO'.2.2.2 (fun k a b c d => ?_) (fun k a b c d e => ?_) y2.2.1 (rt0 _ _ rfl rfl) ?_
    · rw [xI1, if_neg hk, hO'.1]
    · exact congrFun hO'.2.2.1 r
    · rw [sI1, if_neg a]
      exact y2.1 k (fun e => by subst e; cases d) (fun e => by subst e; cases d) (fun e => by subst e; cases d) (fun e => by subst e; cases d)
    · exact y2.2.2 k (fun e' => by subst e'; cases e) (fun e' => by subst e'; cases e) (fun e' => by subst e'; cases e) (fun e' => by subst e'; cases e)
    · refine RL.cg h.2.2.2.1 (congrFun hO'.2.2.1 11) (fun a o ha _ => hO'.2.2.2 a o ha) ?_ ?_ ?_ ?_ ?_ ?_
      · show (sI S' 6 0).1 8 = _
        rw [sI1, if_neg (by decide)]; exact y2.1 8 (by decide) (by decide) (by decide) (by decide)
      · show (sI S' 6 0).1 9 = _
        rw [sI1, if_neg (by decide)]; exact y2.1 9 (by decide) (by decide) (by decide) (by decide)
      · exact y2.2.2 10 (by decide) (by decide) (by decide) (by decide)
      · exact y2.2.2 11 (by decide) (by decide) (by decide) (by decide)
      · exact y2.2.2 12 (by decide) (by decide) (by decide) (by decide)
      · exact y2.2.2 13 (by decide) (by decide) (by decide) (by decide)
theorem law_law {X : XS} {M : MS} (h : R X M) {N : Nat} (hN : 1000 ≤ N) : sameP (fun Q => x_law Q N 1000 X) (m_law N M) := by
  have hm : ∃ v M', m_law N M = some (v, M') := by
    obtain ⟨⟨t1, t2, t3⟩, t4⟩ := h.2.2.1
    obtain ⟨n, hn⟩ : ∃ n : Nat, mi M 6 = n := ⟨(mi M 6).toNat, by omega⟩
    have ht : Tape M n := ⟨hn, by omega, fun k hk => (t4 k (by omega)).1⟩
    rcases law_core (N := N) (a0 := 0) (X := (X.1, X.2.1, X.2.2.1, fun _ => none)) ht (by rw [mi_eq, hn]) (by omega) rfl with ⟨S', cd', L', y1, y2, y3, y4, y5, y6, y7⟩ | ⟨S', at', y1, y2, y3, y4, y5⟩
    · obtain ⟨M', z1, -⟩ := b66_ok (N := N) (by omega) y4 y6.2 y3 y5
      exact ⟨_, _, y1.trans z1⟩
    · exact ⟨_, _, y1.trans (b66_bad y3)⟩
  obtain ⟨v, M', hm⟩ := hm
  refine ⟨v, M', hm, 999, rfl, fun q hq => ?_⟩
  obtain ⟨v2, M2, h2, h3⟩ := law_x h hN hq
  rw [hm] at h2
  cases h2
  exact h3
