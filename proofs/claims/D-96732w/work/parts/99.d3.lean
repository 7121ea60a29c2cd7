/-! PLAIN LAW: which. Own text. -/
set_option maxRecDepth 100000
/-- one way of the paper, in both -/
theorem way_iz {X T : XS} {M S S0 : MS} {L s n : Nat} {g g' : Nat → Int} {T' : XS} (h : R X M) {d : Int} (hd : d = 0 ∨ d = 1) (hr : Rnd X M T S0 L g) (hr' : Rnd X M T' S L g') (hq : qf g' L 0 = qf g L d) {N : Nat} (hN : 5000 ≤ N) (hs : s < 6) (hn : n ≤ 60) (h26 : T.1 26 = iz n) (h42 : ma M 42 s = n) (h25 : ∀ j, j < n → T.2.1 25 j = (M.2.2 (60 * s + j)).toInt32) : ∃ U V b, x_layDents N T (iz d) = some U ∧ m_isPaper N S (iz s) = some (b, V) ∧ x_isPaper N U = some b ∧ xs X U ∧ (U.1 16 = T.1 16 ∧ U.2.1 13 = T.2.1 13) ∧ U.1 26 = iz n ∧ (∀ j, j < n → U.2.1 25 j = (M.2.2 (60 * s + j)).toInt32) ∧ sm M V ∧ V.1 44 = S.1 44 ∧ V.2.1 45 = S.2.1 45 := by
  obtain ⟨U, D, a1, a2, a3, a4, a5, a6, a7, a8, a9⟩ := dents_iz h hr hN hd
  obtain ⟨V, E, b1, b2, b3, b4, b5, b6, b7, b8, b9⟩ := walks_iz h hr' hN (lim := 30) (by omega)
  rw [hq] at b6 b7
  have L20 := hr.2.2.1
  have dl : D ≤ 4000 ∧ E ≤ 30 ∧ ∀ i, i < 30 → (i < D ↔ i < E) := by
    by_cases c : L = 0
    · rw [if_pos c] at a7 b7
      subst a7 b7
      exact ⟨by omega, by omega, fun _ _ => Iff.rfl⟩
    · rw [if_neg c] at a7 b7
      exact ⟨a7.1, b7.1, a7.lim b7⟩
  have u26 : U.1 26 = iz n := by rw [a9 26 (by decide)]; exact h26
  have u25 : ∀ j, j < n → U.2.1 25 j = (M.2.2 (60 * s + j)).toInt32 := fun j hj => by rw [a8 25 (by decide) (by decide)]; exact h25 j hj
  obtain ⟨b, p1, p2⟩ := ispaper_iz (T := U) (S := V) hs hn u26 (by rw [sm_ma b2 rfl]; exact h42) (fun j hj => by rw [b2.1]; exact u25 j hj) dl.1 dl.2.1 a5 b5 dl.2.2 a6 b6 (N := N) (by omega)
  refine ⟨U, V, b, a1, ?_, p1, a2, ⟨a3, a4⟩, u26, u25, b2, b3, b4⟩
  unfold m_isPaper
  exact bindE b1 p2
theorem law_which {X : XS} {M : MS} (h : R X M) {N : Nat} (hN : 5000 ≤ N) (p : Int32) : same (x_which N X p) (m_which N M p) := by
  obtain ⟨p, hp, rfl⟩ := izE p
  unfold x_which m_which
  have z : (iz p < 0) ↔ p < 0 := by rw [show (0 : Int32) = iz 0 from rfl, iz_lt (by omega)]
  by_cases c : p < 0
  · exact ⟨_, _, _, iteTE (z.mpr c) rfl, iteTE (z.mpr c) rfl, h⟩
  have cx : ¬ iz p < 0 := fun y => c (z.mp y)
  have dq : iz p / 10 = iz (p / 10) := by rw [show (10 : Int32) = iz 10 from rfl, iz_div (by omega)]
  have jq : jrem (iz p) 10 = iz (p % 10) := by rw [show (10 : Int32) = iz 10 from rfl, jrem_iz (by omega)]
  rw [dq, jq]
  by_cases c1 : ¬ (0 ≤ p / 10 ∧ p / 10 ≤ 5)
  · exact ⟨_, _, _, iteFE cx (bindE (shelfF (by omega) c1) (iteTE rfl rfl)), iteFE cx (bindE (shelfF (by omega) c1) (iteTE rfl rfl)), h⟩
  replace c1 := Decidable.not_not.mp c1
  by_cases c2 : ¬ (0 ≤ p % 10 ∧ p % 10 ≤ 5)
  · exact ⟨_, _, _, iteFE cx (bindE (shelfT c1) (iteFE b2iT (bindE (shelfF (by omega) c2) (iteTE rfl rfl)))), iteFE cx (bindE (shelfT c1) (iteFE b2iT (bindE (shelfF (by omega) c2) (iteTE rfl rfl)))), h⟩
  replace c2 := Decidable.not_not.mp c2
  obtain ⟨s, es⟩ : ∃ s : Nat, p / 10 = s := ⟨(p / 10).toNat, by omega⟩
  obtain ⟨r, er⟩ : ∃ r : Nat, p % 10 = r := ⟨(p % 10).toNat, by omega⟩
  unfold m_which_b107
  rw [jq, es, er]
  rw [es] at c1
  rw [er] at c2
  have S1 := shelfT c1
  have S2 := shelfT c2
  have lit : ∀ (w : Nat), w ≤ 5 → ∀ k : Int, -100 ≤ k ∧ k ≤ 100 → ((M.2.1 41 (iz w).toNatClampNeg = iz k) ↔ ma M 41 w = k) := fun w hw k hk => by
    have := ma_R M 41 w
    rw [iz_clampN (by omega), ma_eq M 41, iz_eq (by omega)]
  have xi : xs X (xI X 16 0) := (xs.rf X).setI rfl _
  have mA : ma M 41 s = -1 → ∀ K : Option (Int32 × MS), (chk 6 (iz s) (if M.2.1 41 (iz s).toNatClampNeg = -1 then some (iz (-11), M) else K)) = some (iz (-11), M) := fun e K => chkE rfl (by omega) (iteTE ((lit s (by omega) (-1) (by omega)).mpr e) rfl)
  have mB : ma M 41 s ≠ -1 → ma M 41 r = -1 → ∀ K : Option (Int32 × MS), (chk 6 (iz s) (if M.2.1 41 (iz s).toNatClampNeg = -1 then some (iz (-11), M) else chk 6 (iz r) (if M.2.1 41 (iz r).toNatClampNeg = -1 then some (iz (-11), M) else K))) = some (iz (-11), M) := fun e e2 K => chkE rfl (by omega) (iteFE (fun q => e ((lit s (by omega) (-1) (by omega)).mp q)) (chkE rfl (by omega) (iteTE ((lit r (by omega) (-1) (by omega)).mpr e2) rfl)))
  have mC : ma M 41 s ≠ -1 → ma M 41 r ≠ -1 → ∀ K k : Option (Int32 × MS), K = k → (chk 6 (iz s) (if M.2.1 41 (iz s).toNatClampNeg = -1 then some (iz (-11), M) else chk 6 (iz r) (if M.2.1 41 (iz r).toNatClampNeg = -1 then some (iz (-11), M) else chk 6 (iz s) K))) = k := fun e e2 K k hk => chkE rfl (by omega) (iteFE (fun q => e ((lit s (by omega) (-1) (by omega)).mp q)) (chkE rfl (by omega) (iteFE (fun q => e2 ((lit r (by omega) (-1) (by omega)).mp q)) (chkE rfl (by omega) hk))))
  rcases lay_read h (N := N) (by omega) (s := s) (by omega) with ⟨e, he, l1, l2⟩ | ⟨T, S, L, g, l1, l2, l3, l4⟩
  · have rX := h.scr xi (sm.rf M)
    rcases noRow_is (by omega) (by omega) l2 with ⟨e1, e2⟩ | ⟨e1, e2⟩ | ⟨e1, e2, e3⟩
    · subst e1
      rcases lay_paper rX (N := N) (by omega) (s := r) (by omega) with ⟨q1, q2⟩ | ⟨q1, q2, q3⟩ | ⟨q1, U, n, q2, q3, -⟩
      · exact ⟨_, _, _, iteFE cx (bindE S1 (iteFE b2iT (bindE S2 (iteFE b2iT (b2E l1 (b2E q2 (iteTE rfl rfl))))))), iteFE cx (bindE S1 (iteFE b2iT (bindE S2 (iteFE b2iT (mA e2 _))))), rX.scr ((xs.rf _).setI rfl _) (sm.rf M)⟩
      · exact ⟨_, _, _, iteFE cx (bindE S1 (iteFE b2iT (bindE S2 (iteFE b2iT (b2E l1 (b2E q3 (iteTE rfl rfl))))))), iteFE cx (bindE S1 (iteFE b2iT (bindE S2 (iteFE b2iT (mA e2 _))))), rX.scr ((xs.rf _).setI rfl _) (sm.rf M)⟩
      · exact ⟨_, _, _, iteFE cx (bindE S1 (iteFE b2iT (bindE S2 (iteFE b2iT (b2E l1 (b2E q2 (iteTE rfl rfl))))))), iteFE cx (bindE S1 (iteFE b2iT (bindE S2 (iteFE b2iT (mA e2 _))))), rX.scr q3 (sm.rf M)⟩
    · omega
    · subst e1
      have k0 : ¬ M.2.1 41 (iz s).toNatClampNeg = 0 := fun q => e3 ((lit s (by omega) 0 (by omega)).mp q)
      rcases lay_paper rX (N := N) (by omega) (s := r) (by omega) with ⟨q1, q2⟩ | ⟨q1, q2, q3⟩ | ⟨q1, U, n, q2, q3, -⟩
      · exact ⟨_, _, _, iteFE cx (bindE S1 (iteFE b2iT (bindE S2 (iteFE b2iT (b2E l1 (b2E q2 (iteFE (by decide) (iteTE rfl rfl)))))))), iteFE cx (bindE S1 (iteFE b2iT (bindE S2 (iteFE b2iT (mB e2 q1 _))))), rX.scr ((xs.rf _).setI rfl _) (sm.rf M)⟩
      · exact ⟨_, _, _, iteFE cx (bindE S1 (iteFE b2iT (bindE S2 (iteFE b2iT (b2E l1 (b2E q3 (iteFE (by decide) (iteFE (by decide) (iteTE (by decide) rfl))))))))), iteFE cx (bindE S1 (iteFE b2iT (bindE S2 (iteFE b2iT (mC e2 q1 _ _ (iteFE k0 rfl)))))), rX.scr ((xs.rf _).setI rfl _) (sm.rf M)⟩
      · exact ⟨_, _, _, iteFE cx (bindE S1 (iteFE b2iT (bindE S2 (iteFE b2iT (b2E l1 (b2E q2 (iteFE (by decide) (iteFE (by decide) (iteTE (by decide) rfl))))))))), iteFE cx (bindE S1 (iteFE b2iT (bindE S2 (iteFE b2iT (mC e2 (by omega) _ _ (iteFE k0 rfl)))))), rX.scr q3 (sm.rf M)⟩
  · have rX := h.scr l4.1 (sm.rf M)
    have e0 : ma M 41 s = 0 := by
      rcases noRow_is (c := 0) (by omega) (by omega) l2 with ⟨e1, _⟩ | ⟨_, e2⟩ | ⟨e1, _⟩
      · omega
      · exact e2
      · omega
    have k0 : M.2.1 41 (iz s).toNatClampNeg = 0 := (lit s (by omega) 0 (by omega)).mpr e0
    rcases lay_paper rX (N := N) (by omega) (s := r) (by omega) with ⟨q1, q2⟩ | ⟨q1, q2, q3⟩ | ⟨q1, U, n, q2, q3, q4, q5, q6, q7, q8, q9⟩
    · exact ⟨_, _, _, iteFE cx (bindE S1 (iteFE b2iT (bindE S2 (iteFE b2iT (b2E l1 (b2E q2 (iteFE (by decide) (iteTE rfl rfl)))))))), iteFE cx (bindE S1 (iteFE b2iT (bindE S2 (iteFE b2iT (mB (by omega) q1 _))))), rX.scr ((xs.rf _).setI rfl _) (sm.rf M)⟩
    · exact ⟨_, _, _, iteFE cx (bindE S1 (iteFE b2iT (bindE S2 (iteFE b2iT (b2E l1 (b2E q3 (iteFE (by decide) (iteFE (by decide) (iteFE (by decide) (iteFE (by decide) rfl)))))))))), iteFE cx (bindE S1 (iteFE b2iT (bindE S2 (iteFE b2iT (mC (by omega) q1 _ _ (iteTE k0 (chkE rfl (by omega) (iteFE (fun q => q2 ((lit r (by omega) 1 (by omega)).mp q)) rfl)))))))), rX.scr ((xs.rf _).setI rfl _) (sm.rf M)⟩
    · have rU : Rnd X M U S L g := ⟨l4.1.tr q3, l4.2.1, l4.2.2.1, by rw [q9 16 (by decide)]; exact l4.2.2.2.1, l4.2.2.2.2.1, fun j hj => by rw [q8 13 (by decide)]; exact l4.2.2.2.2.2 j hj⟩
      obtain ⟨U1, V1, b1, a1, a2, a3, a4, a5, a6, a7, a8, a9, a10⟩ := way_iz h (d := 0) (Or.inl rfl) rU l4 rfl hN (s := r) (by omega) q5 q4 q6 q7
      have rV1 := l4.to a8 a9 a10
      obtain ⟨S3, T3, c3, c4, -⟩ := turns_iz rV1 (N := N) (by omega)
      have rU1 : Rnd X M U1 S L g := ⟨a4, rU.2.1, rU.2.2.1, a5.1.trans rU.2.2.2.1, rU.2.2.2.2.1, fun j hj => by rw [a5.2]; exact rU.2.2.2.2.2 j hj⟩
      obtain ⟨U2, V2, b2', d1, d2, d3, d4, d5, d6, d7, d8, d9⟩ := way_iz h (d := 1) (Or.inr rfl) rU1 c4 qf_back hN (s := r) (by omega) q5 a6 q6 a7
      have xb : ∀ s1 : Int32, x_which_b87 N U1 s1 = some (if b2' then s1 + 2 else s1 + 0, U2) := fun s1 => by
        unfold x_which_b87
        refine bindE d1 (bindE d3 ?_)
        cases b2'
        · exact iteTE rfl rfl
        · exact iteFE b2iT rfl
      have mb : ∀ s1 : Int32, ((m_turns N V1).bind fun T3 => b2 (m_isPaper N T3 (iz r)) fun v5 T6 => (if (b2i v5) = 0 then some (s1 + 0, T6) else some (s1 + 2, T6))) = some (if b2' then s1 + 2 else s1 + 0, V2) := fun s1 => by
        refine bindE c3 (b2E d2 ?_)
        cases b2'
        · exact iteTE rfl rfl
        · exact iteFE b2iT rfl
      have fin := h.scr d4 d8
      have k1 := (lit r (by omega) 1 (by omega)).mpr q1
      cases b1
      · exact ⟨_, U2, V2, iteFE cx (bindE S1 (iteFE b2iT (bindE S2 (iteFE b2iT (b2E l1 (b2E q2 (iteFE (by decide) (iteFE (by decide) (iteFE (by decide) (iteTE (by decide) (bindE a1 (bindE a3 (iteTE rfl (xb 0)))))))))))))), iteFE cx (bindE S1 (iteFE b2iT (bindE S2 (iteFE b2iT (mC (by omega) (by omega) _ _ (iteTE k0 (chkE rfl (by omega) (iteTE k1 (bindE l3 (b2E a2 (iteTE rfl (mb 0))))))))))))  , fin⟩
      · exact ⟨_, U2, V2, iteFE cx (bindE S1 (iteFE b2iT (bindE S2 (iteFE b2iT (b2E l1 (b2E q2 (iteFE (by decide) (iteFE (by decide) (iteFE (by decide) (iteTE (by decide) (bindE a1 (bindE a3 (iteFE b2iT (xb 1)))))))))))))), iteFE cx (bindE S1 (iteFE b2iT (bindE S2 (iteFE b2iT (mC (by omega) (by omega) _ _ (iteTE k0 (chkE rfl (by omega) (iteTE k1 (bindE l3 (b2E a2 (iteFE b2iT (mb 1))))))))))))  , fin⟩
