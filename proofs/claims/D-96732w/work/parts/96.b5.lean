/-! PLAIN LAW: mend. Own text. -/
set_option maxRecDepth 100000
def fitB (w v : Int) : Bool := if w = 2 ∨ w = 7 then decide (0 ≤ v ∧ v ≤ 9) else if w = 3 then decide (1 ≤ v ∧ v ≤ 999) else if w = 6 then decide (1 ≤ v ∧ v ≤ 9) else decide (0 ≤ v ∧ v ≤ 15)
theorem fitB_iff {w v : Int} : fitB w v = true ↔ fitV w v := by
  unfold fitB fitV
  (repeat' split) <;> exact decide_eq_true_iff
theorem mayBe_iz {w v : Int} (hw : -2147483648 ≤ w ∧ w ≤ 2147483647) (hv : -2147483648 ≤ v ∧ v ≤ 2147483647) : x_mayBe (iz w) (iz v) = some (fitB w v) := by
  unfold x_mayBe
  have l : ∀ n : Nat, n ≤ 7 → ((iz w = iz n) ↔ w = n) := fun n hn => iz_eq (by omega)
  have w9 : x_in (iz v) 0 9 = some (decide (0 ≤ v ∧ v ≤ 9)) := by rw [show (0 : Int32) = iz 0 from rfl, show (9 : Int32) = iz 9 from rfl, x_in_iz (by omega)]
  by_cases c2 : w = 2
  · rw [show fitB w v = decide (0 ≤ v ∧ v ≤ 9) by unfold fitB; rw [if_pos (Or.inl c2)]]
    exact iteTE ((l 2 (by omega)).mpr c2) (bindE w9 rfl)
  refine iteFE (fun q => c2 ((l 2 (by omega)).mp q)) ?_
  by_cases c3 : w = 3
  · rw [show fitB w v = decide (1 ≤ v ∧ v ≤ 999) by unfold fitB; rw [if_neg (by omega), if_pos c3]]
    exact iteTE ((l 3 (by omega)).mpr c3) (bindE (by rw [show (1 : Int32) = iz 1 from rfl, show (999 : Int32) = iz 999 from rfl, x_in_iz (by omega)]) rfl)
  refine iteFE (fun q => c3 ((l 3 (by omega)).mp q)) ?_
  by_cases c6 : w = 6
  · rw [show fitB w v = decide (1 ≤ v ∧ v ≤ 9) by unfold fitB; rw [if_neg (by omega), if_neg c3, if_pos c6]]
    exact iteTE ((l 6 (by omega)).mpr c6) (bindE (by rw [show (1 : Int32) = iz 1 from rfl, show (9 : Int32) = iz 9 from rfl, x_in_iz (by omega)]) rfl)
  refine iteFE (fun q => c6 ((l 6 (by omega)).mp q)) ?_
  by_cases c7 : w = 7
  · rw [show fitB w v = decide (0 ≤ v ∧ v ≤ 9) by unfold fitB; rw [if_pos (Or.inr c7)]]
    exact iteTE ((l 7 (by omega)).mpr c7) (bindE w9 rfl)
  refine iteFE (fun q => c7 ((l 7 (by omega)).mp q)) ?_
  rw [show fitB w v = decide (0 ≤ v ∧ v ≤ 15) by unfold fitB; rw [if_neg (by omega), if_neg c3, if_neg c6]]
  exact bindE (x_isCell_iz hv) rfl
theorem isFit_iz {w v : Int} (hw : -2147483648 ≤ w ∧ w ≤ 2147483647) (hv : -2147483648 ≤ v ∧ v ≤ 2147483647) : m_isFit (iz w) (iz v) = some (fitB w v) := by
  unfold m_isFit
  have l : ∀ n : Nat, n ≤ 7 → ((iz w = iz n) ↔ w = n) := fun n hn => iz_eq (by omega)
  have w9 : m_within (iz v) 0 9 = some (decide (0 ≤ v ∧ v ≤ 9)) := by rw [show (0 : Int32) = iz 0 from rfl, show (9 : Int32) = iz 9 from rfl, m_within_iz (by omega)]
  by_cases c2 : w = 2
  · rw [show fitB w v = decide (0 ≤ v ∧ v ≤ 9) by unfold fitB; rw [if_pos (Or.inl c2)]]
    exact iteTE ((l 2 (by omega)).mpr c2) (bindE w9 rfl)
  refine iteFE (fun q => c2 ((l 2 (by omega)).mp q)) ?_
  by_cases c3 : w = 3
  · rw [show fitB w v = decide (1 ≤ v ∧ v ≤ 999) by unfold fitB; rw [if_neg (by omega), if_pos c3]]
    exact iteTE ((l 3 (by omega)).mpr c3) (bindE (by rw [show (1 : Int32) = iz 1 from rfl, show (999 : Int32) = iz 999 from rfl, m_within_iz (by omega)]) rfl)
  refine iteFE (fun q => c3 ((l 3 (by omega)).mp q)) ?_
  by_cases c6 : w = 6
  · rw [show fitB w v = decide (1 ≤ v ∧ v ≤ 9) by unfold fitB; rw [if_neg (by omega), if_neg c3, if_pos c6]]
    exact iteTE ((l 6 (by omega)).mpr c6) (bindE (by rw [show (1 : Int32) = iz 1 from rfl, show (9 : Int32) = iz 9 from rfl, m_within_iz (by omega)]) rfl)
  refine iteFE (fun q => c6 ((l 6 (by omega)).mp q)) ?_
  by_cases c7 : w = 7
  · rw [show fitB w v = decide (0 ≤ v ∧ v ≤ 9) by unfold fitB; rw [if_pos (Or.inr c7)]]
    exact iteTE ((l 7 (by omega)).mpr c7) (bindE w9 rfl)
  refine iteFE (fun q => c7 ((l 7 (by omega)).mp q)) ?_
  rw [show fitB w v = decide (0 ≤ v ∧ v ≤ 15) by unfold fitB; rw [if_neg (by omega), if_neg c3, if_neg c6]]
  exact bindE (by rw [show (0 : Int32) = iz 0 from rfl, show (15 : Int32) = iz 15 from rfl, m_within_iz (by omega)]) rfl
/-- a change that stands alike in both -/
def chR (X : XS) (n : Int) (k : Nat) (A : Nat → Int) : Prop := ∃ (a : Nat) (o : XO), X.2.2.1 6 k = some a ∧ X.2.2.2 a = some o ∧ o.1 = 4 ∧ o.2.1 0 = iz (A 1) ∧ o.2.1 1 = iz (A 0) ∧ o.2.1 2 = iz (A 2) ∧ o.2.1 3 = iz (A 3) ∧ okCh n (A 0) (A 1) (A 2) ∧ okCh n (A 0) (A 1) (A 3)
theorem RC_iff {X : XS} {M : MS} : RC X M ↔ (X.1 7 = iz (mi M 35) ∧ X.1 8 = iz (mi M 34 - mi M 35)) ∧ (0 ≤ mi M 35 ∧ mi M 35 ≤ mi M 34 ∧ mi M 34 ≤ 40) ∧ ∀ k : Nat, (k : Int) < mi M 34 → chR X (mi M 0) k (fun j => ma M 36 (4 * k + j)) := by
  constructor
  · intro ⟨h1, h2, h3, h4⟩
    refine ⟨h1, h2, fun k hk => ?_⟩
    obtain ⟨a, o, q1, q2, q3, q4, q5, q6, q7⟩ := h3 k hk
    exact ⟨a, o, q1, q2, q3, q4, q5, q6, q7, h4 k hk⟩
  · intro ⟨h1, h2, h3⟩
    refine ⟨h1, h2, fun k hk => ?_, fun k hk => ?_⟩
    · obtain ⟨a, o, q1, q2, q3, q4, q5, q6, q7, q8⟩ := h3 k hk
      exact ⟨a, o, q1, q2, q3, q4, q5, q6, q7⟩
    · obtain ⟨a, o, q1, q2, q3, q4, q5, q6, q7, q8⟩ := h3 k hk
      exact q8
theorem x_shift_l {Q : Int32 → XS → Prop} {l1 l2 l3 l4 : Int32} {m : Nat} (N : Nat) (T : XS) (hT : ∀ k : Nat, k < 40 → ∃ (a : Nat) (o : XO), T.2.2.1 6 k = some a ∧ getO T a 4 = some o) : ∀ (n i : Nat) (S : XS), 1 ≤ i → i ≤ 40 → 40 - i < n → S.1 = T.1 → S.2.1 = T.2.1 → S.2.2.2 = T.2.2.2 → (∀ r, r ≠ 6 → S.2.2.1 r = T.2.2.1 r) → (∀ j, S.2.2.1 6 j = if j + 1 < i then T.2.2.1 6 (j + 1) else T.2.2.1 6 j) → ∃ X' : XS, (x_become_b64 Q N l1 l2 l3 l4 m (xI X' 7 (T.1 7 - 1)) → x_become_b25 Q N l1 l2 l3 l4 n m S (iz i)) ∧ X'.1 = T.1 ∧ X'.2.1 = T.2.1 ∧ X'.2.2.2 = T.2.2.2 ∧ (∀ r, r ≠ 6 → X'.2.2.1 r = T.2.2.1 r) ∧ ∀ j, j < 39 → X'.2.2.1 6 j = T.2.2.1 6 (j + 1) := by
  intro n
  induction n with
  | zero => intro i S h1 h2 h3; omega
  | succ n ih =>
    intro i S h1 h2 h3 e1 e2 e3 e4 e5
    unfold x_become_b25
    simp only [nmP_eq]
    by_cases c : i = 40
    · subst c
      exact ⟨S, fun h => iteT (by decide) (by rw [e1]; exact h), e1, e2, e3, e4, fun j hj => by rw [e5, if_pos (by omega)]⟩
    · obtain ⟨a, o, q1, q2⟩ := hT i (by omega)
      have ni : iz i + 1 = iz ((i + 1 : Nat) : Int) := by rw [show (1 : Int32) = iz 1 from rfl, iz_add]; rfl
      have di : iz i - 1 = iz ((i - 1 : Nat) : Int) := by rw [show (1 : Int32) = iz 1 from rfl, iz_sub]; congr 1; omega
      obtain ⟨X', g1, g⟩ := ih (i + 1) (xR S 6 (i - 1) (some a)) (by omega) (by omega) (by omega) e1 e2 e3 (fun r hr => by
        funext j
        rw [xR22, if_neg hr, e4 r hr]) (fun j => by
        rw [xR22, if_pos rfl, e5]
        by_cases cj : j = i - 1
        · rw [if_pos cj, if_pos (by omega), ← q1, show j + 1 = i by omega]
        · rw [if_neg cj]
          by_cases d : j + 1 < i
          · rw [if_pos d, if_pos (by omega)]
          · rw [if_neg d, if_neg (by omega)])
      refine ⟨X', fun h => iteF (by rw [show (40 : Int32) = iz 40 from rfl, iz_le (by omega)]; omega) (chkP_ok (by omega) (by decide) (bindP_eq (v := a) ?_ ?_)), g⟩
      · rw [iz_clampN (by omega), e5, if_neg (by omega)]; exact q1
      · rw [di]
        refine chkP_ok (by omega) (by decide) (bindP_eq (v := o) (by unfold getO; rw [e3]; exact q2) ?_)
        rw [ni, iz_clampN (by omega)]
        exact g1 h
theorem m_shift_l {l1 l2 l3 l4 : Int32} (N : Nat) (T : MS) : ∀ (n i : Nat) (S : MS), i ≤ 156 → 156 - i < n → S.1 = T.1 → S.2.2 = T.2.2 → (∀ r, r ≠ 36 → S.2.1 r = T.2.1 r) → (∀ j, S.2.1 36 j = if j < i then T.2.1 36 (j + 4) else T.2.1 36 j) → ∃ M' : MS, m_mend_b55 N l1 l2 l3 l4 n S (iz i) = m_mend_b95 N l1 l2 l3 l4 (sI M' 35 (T.1 35 - 1)) ∧ M'.1 = T.1 ∧ M'.2.2 = T.2.2 ∧ (∀ r, r ≠ 36 → M'.2.1 r = T.2.1 r) ∧ ∀ j, j < 156 → M'.2.1 36 j = T.2.1 36 (j + 4) := by
  intro n
  induction n with
  | zero => intro i S h1 h2; omega
  | succ n ih =>
    intro i S h1 h2 e1 e2 e3 e4
    rw [m_mend_b55]
    simp only [nm_eq]
    by_cases c : i = 156
    · subst c
      exact ⟨S, iteTE (by decide) (by rw [e1]), e1, e2, e3, fun j hj => by rw [e4, if_pos hj]⟩
    · have ni : iz i + 1 = iz ((i + 1 : Nat) : Int) := by rw [show (1 : Int32) = iz 1 from rfl, iz_add]; rfl
      have n4 : iz i + 4 = iz ((i + 4 : Nat) : Int) := by rw [show (4 : Int32) = iz 4 from rfl, iz_add]; rfl
      obtain ⟨M', g1, g⟩ := ih (i + 1) (sA S 36 i (S.2.1 36 (i + 4))) (by omega) (by omega) e1 e2 (fun r hr => by
        rw [← e3 r hr]
        funext j
        rw [sA21, if_neg hr]) (fun j => by
        rw [sA21, if_pos rfl]
        by_cases cj : j = i
        · rw [if_pos cj, if_pos (by omega), e4, if_neg (by omega), cj]
        · rw [if_neg cj, e4]
          by_cases d : j < i
          · rw [if_pos d, if_pos (by omega)]
          · rw [if_neg d, if_neg (by omega)])
      refine ⟨M', iteFE (by rw [show (156 : Int32) = iz 156 from rfl, iz_le (by omega)]; omega) (chkE n4 (by omega) (chkE rfl (by omega) ?_)), g⟩
      rw [ni, n4, iz_clampN (by omega), iz_clampN (by omega)]
      exact g1
theorem val_fit {X : XS} {M : MS} (h : RP X M) {p w : Int} (hk : okOf (mi M 0) p w) : fitV w (valOf M p w) := by
  obtain ⟨k1, k2, k3⟩ := hk
  obtain ⟨g1, g2, g3, g4, g5, g6, g7⟩ := h
  unfold fitV valOf
  rcases (show w = 0 ∨ w = 1 ∨ w = 2 ∨ w = 3 ∨ w = 4 ∨ w = 5 ∨ w = 6 ∨ w = 7 by omega) with e | e | e | e | e | e | e | e <;> subst e
  · exact (g5 p.toNat (by omega)).1
  · exact (g5 p.toNat (by omega)).2.1
  · exact (g5 p.toNat (by omega)).2.2.1
  · exact (g5 p.toNat (by omega)).2.2.2
  · exact g3.1
  · exact g3.2.1
  · exact g3.2.2.1
  · exact g3.2.2.2
theorem chR.cg {X X' : XS} {n n' : Int} {k : Nat} {A A' : Nat → Int} (h : chR X n k A) (e1 : X'.2.2.1 6 k = X.2.2.1 6 k) (e2 : ∀ (a : Nat) (o : XO), X.2.2.2 a = some o → o.1 = 4 → X'.2.2.2 a = some o) (e3 : n = n') (e4 : ∀ j, j < 4 → A' j = A j) : chR X' n' k A' := by
  subst e3
  obtain ⟨a, o, q1, q2, q3, q4, q5, q6, q7, q8⟩ := h
  rw [← e4 0 (by omega), ← e4 1 (by omega), ← e4 2 (by omega), ← e4 3 (by omega)] at *
  exact ⟨a, o, by rw [e1]; exact q1, e2 a o q2 q3, q3, q4, q5, q6, q7, q8⟩
theorem mend_push {X Xs : XS} {M M1 Ms : MS} (h : R X M) (N e : Nat) (he : e ≤ 39) {p w v V : Int} (hv : -2147483648 ≤ v ∧ v ≤ 2147483647) (hk : okOf (mi M 0) p w) (hf : fitV w v) (hV : V = valOf M p w) (hp : -2147483648 ≤ p ∧ p ≤ 2147483647) (hb : m_becomes M (iz p) (iz w) (iz v) = some M1) (hM1 : onlyM M M1)
    (x7 : Xs.1 7 = iz e) (x8 : Xs.1 8 = 0) (x1 : ∀ k, k ≠ 7 → k ≠ 8 → Xs.1 k = X.1 k) (xa : Xs.2.1 = X.2.1) (xo : Xs.2.2.2 = X.2.2.2) (xr : ∀ r, r ≠ 6 → Xs.2.2.1 r = X.2.2.1 r)
    (m35 : Ms.1 35 = iz e) (m1 : ∀ k, k ≠ 35 → Ms.1 k = M.1 k) (mr : ∀ r, r ≠ 36 → Ms.2.1 r = M1.2.1 r) (ml : Ms.2.2 = M1.2.2)
    (hc : ∀ k, k < e → chR Xs (mi M 0) k (fun j => ma Ms 36 (4 * k + j))) :
    ∃ Mf, m_mend_b95 N (iz p) (iz w) (iz v) (iz V) Ms = some (iz V, Mf) ∧ x_become_b64 (fun v' X' => v' = iz V ∧ R X' Mf) N (iz w) (iz p) (iz V) (iz v) 1 Xs := by
  obtain ⟨h1, h2, h3, h4, h5, h6, h7, h8, h9⟩ := h
  have hVf : fitV w V := by rw [hV]; exact val_fit h1 hk
  have hVr := fit_R hVf
  obtain ⟨w7, hk2, hk3⟩ := hk
  have n9 := h1.1.2
  have ne : iz e + 1 = iz ((e : Int) + 1) := by rw [show (1 : Int32) = iz 1 from rfl, iz_add]
  have e4 : 4 * iz e = iz ((4 * e : Nat) : Int) := by rw [show (4 : Int32) = iz 4 from rfl, iz_mul]; congr 1
  have e41 : iz ((4 * e : Nat) : Int) + 1 = iz ((4 * e + 1 : Nat) : Int) := by rw [show (1 : Int32) = iz 1 from rfl, iz_add]; rfl
  have e42 : iz ((4 * e : Nat) : Int) + 2 = iz ((4 * e + 2 : Nat) : Int) := by rw [show (2 : Int32) = iz 2 from rfl, iz_add]; rfl
  have e43 : iz ((4 * e : Nat) : Int) + 3 = iz ((4 * e + 3 : Nat) : Int) := by rw [show (3 : Int32) = iz 3 from rfl, iz_add]; rfl
  refine ⟨sI (sI (sA (sA (sA (sA Ms 36 (4 * e) (iz p)) 36 (4 * e + 1) (iz w)) 36 (4 * e + 2) (iz V)) 36 (4 * e + 3) (iz v)) 35 (iz ((e : Int) + 1))) 34 (iz ((e : Int) + 1)), ?_, ?_⟩
  · unfold m_mend_b95
    simp only [nm_eq, sA1, sI1, if_true, m35]
    rw [e4, e41, e42, e43, ne, iz_clampN (by omega), iz_clampN (by omega), iz_clampN (by omega), iz_clampN (by omega)]
    exact chkE rfl (by omega) (chkE rfl (by omega) (chkE rfl (by omega) (chkE rfl (by omega) rfl)))
  · generalize hF : sI (sI (sA (sA (sA (sA Ms 36 (4 * e) (iz p)) 36 (4 * e + 1) (iz w)) 36 (4 * e + 2) (iz V)) 36 (4 * e + 3) (iz v)) 35 (iz ((e : Int) + 1))) 34 (iz ((e : Int) + 1)) = F
    have F34 : mi F 34 = (e : Int) + 1 := by rw [← hF, mi_sI _ _ (by omega), if_pos rfl]
    have F35 : mi F 35 = (e : Int) + 1 := by rw [← hF, mi_sI _ _ (by omega), if_neg (by decide), mi_sI _ _ (by omega), if_pos rfl]
    have F1 : ∀ k, k ≠ 34 → k ≠ 35 → F.1 k = M.1 k := fun k k1 k2 => by rw [← hF, sI1, if_neg k1, sI1, if_neg k2]; exact m1 k k2
    have F2 : ∀ r, r ≠ 36 → F.2.1 r = M1.2.1 r := fun r hr => by
      rw [← mr r hr, ← hF]
      funext j
      simp only [sI2, sA21, hr, if_false]
    have F3 : F.2.2 = M1.2.2 := by rw [← hF]; exact ml
    have FA : ∀ j, ma F 36 j = if j = 4 * e + 3 then v else if j = 4 * e + 2 then V else if j = 4 * e + 1 then w else if j = 4 * e then p else ma Ms 36 j := fun j => by
      rw [← hF, ma_sI, ma_sI, ma_sA _ _ _ (by omega), if_pos rfl, ma_sA _ _ _ (by omega), if_pos rfl, ma_sA _ _ _ (by omega), if_pos rfl, ma_sA _ _ _ (by omega), if_pos rfl]
    clear hF
    unfold x_become_b64
    refine ⟨0, rfl, fun q hq => ?_⟩
    have qX : X.2.2.2 q = none := by rw [← xo]; exact hq
    simp only [nmP_eq]
    rw [x7]
    refine chkP_ok (by omega) (by decide) (bindP_eq (getO_eq (xO_at _ _ _) rfl) ?_)
    rw [iz_clampN (by omega), show (xR (xO Xs q (mkO 4 [iz w, iz p, iz V, iz v] [])) 6 e (some q)).1 7 + 1 = iz ((e : Int) + 1) from by show Xs.1 7 + 1 = _; rw [x7, ne]]
    generalize hT : xI (xR (xO Xs q (mkO 4 [iz w, iz p, iz V, iz v] [])) 6 e (some q)) 7 (iz ((e : Int) + 1)) = T
    have T7 : T.1 7 = iz ((e : Int) + 1) := by rw [← hT]; rfl
    have T8 : T.1 8 = 0 := by rw [← hT]; exact x8
    have T1 : ∀ k, k ≠ 7 → k ≠ 8 → T.1 k = X.1 k := fun k k1 k2 => by rw [← hT, xI1, if_neg k1]; exact x1 k k1 k2
    have Ta : T.2.1 = X.2.1 := by rw [← hT]; exact xa
    have To : ∀ b, T.2.2.2 b = if b = q then some (mkO 4 [iz w, iz p, iz V, iz v] []) else X.2.2.2 b := fun b => by
      rw [← hT]
      show (xO Xs q (mkO 4 [iz w, iz p, iz V, iz v] [])).2.2.2 b = _
      rw [xO23, xo]
    have Tk : ∀ (b : Nat) (o : XO), X.2.2.2 b = some o → T.2.2.2 b = some o := fun b o hb => by rw [To, if_neg (fun z => by subst z; rw [qX] at hb; cases hb), hb]
    have Tr : ∀ r, r ≠ 6 → T.2.2.1 r = X.2.2.1 r := fun r hr => by
      rw [← hT, ← xr r hr]
      funext j
      show (xR (xO Xs q (mkO 4 [iz w, iz p, iz V, iz v] [])) 6 e (some q)).2.2.1 r j = _
      rw [xR22, if_neg hr]
      rfl
    have T6 : ∀ j, T.2.2.1 6 j = if j = e then some q else Xs.2.2.1 6 j := fun j => by
      rw [← hT]
      show (xR (xO Xs q (mkO 4 [iz w, iz p, iz V, iz v] [])) 6 e (some q)).2.2.1 6 j = _
      rw [xR22, if_pos rfl]
      rfl
    clear hT
    have rp : RP T M := h1.cg (T1 1 (by decide) (by decide)) (T1 2 (by decide) (by decide)) (T1 3 (by decide) (by decide)) (T1 4 (by decide) (by decide)) (T1 5 (by decide) (by decide)) (Tr 0 (by decide)) (fun a o g _ => Tk a o g) rfl rfl rfl rfl rfl rfl rfl
    obtain ⟨X', M'', s1, s2, s3, ⟨t1, t2, t3, t4⟩, s5⟩ := set_to rp w7 hk2 hk3 hf
    obtain rfl : M'' = M1 := Option.some.inj (s2.symm.trans hb)
    refine bindP_eq s1 ⟨trivial, ?_⟩
    obtain ⟨u1, u2, u3⟩ := s5
    have fx : ∀ k, k ≠ 2 → k ≠ 3 → k ≠ 4 → k ≠ 5 → k ≠ 7 → k ≠ 8 → X'.1 k = X.1 k := fun k k2 k3 k4 k5 k7 k8 => by rw [t1 k k2 k3 k4 k5, T1 k k7 k8]
    have D : ∀ k : Nat, 9 ≤ k → X'.1 k = X.1 k := fun k hk => fx k (by omega) (by omega) (by omega) (by omega) (by omega) (by omega)
    have fa : X'.2.1 = X.2.1 := by rw [t2, Ta]
    have fr : ∀ r, r ≠ 6 → X'.2.2.1 r = X.2.2.1 r := fun r hr => by rw [t3, Tr r hr]
    have fo : ∀ (b : Nat) (o : XO), X.2.2.2 b = some o → o.1 ≠ 3 → X'.2.2.2 b = some o := fun b o hb ht => t4 b o (Tk b o hb) ht
    have G : ∀ k : Nat, k < 34 ∨ 35 < k → F.1 k = M.1 k := fun k hk => F1 k (by omega) (by omega)
    have H : ∀ k : Nat, 6 ≤ k → k ≠ 36 → F.2.1 k = M.2.1 k := fun k hk h36 => by rw [F2 k h36, u2 k (by omega) (by omega) (by omega) (by omega) (by omega)]
    have m0 : mi F 0 = mi M 0 := mi_cg (G 0 (by omega))
    have le0 : mi M 0 ≤ mi F 0 := by omega
    have FL : F.2.2 = M.2.2 := by rw [F3, u3]
    refine ⟨?_, RC_iff.mpr ⟨⟨?_, ?_⟩, by omega, fun k hk => ?_⟩, ?_, ?_, ?_, ?_, ?_, ?_, ?_⟩
    · exact s3.cg rfl rfl rfl rfl rfl rfl (fun _ _ g _ => g) (by rw [u1]; exact G 0 (by omega)) (F2 1 (by decide)) (F2 2 (by decide)) (F2 3 (by decide)) (F2 4 (by decide)) (F2 5 (by decide)) (F2 26 (by decide))
    · rw [F35, t1 7 (by decide) (by decide) (by decide) (by decide), T7]
    · rw [F34, F35, t1 8 (by decide) (by decide) (by decide) (by decide), T8, show (e : Int) + 1 - (e + 1) = 0 by omega]; rfl
    · rw [F34] at hk
      by_cases c : k = e
      · subst c
        refine ⟨q, mkO 4 [iz w, iz p, iz V, iz v] [], by rw [t3, T6, if_pos rfl], t4 q _ (by rw [To, if_pos rfl]) (by show (4 : Nat) ≠ 3; decide), rfl, ?_⟩
        have A0 : ma F 36 (4 * k + 0) = p := by rw [FA, if_neg (by omega), if_neg (by omega), if_neg (by omega), if_pos (by omega)]
        have A1 : ma F 36 (4 * k + 1) = w := by rw [FA, if_neg (by omega), if_neg (by omega), if_pos (by omega)]
        have A2 : ma F 36 (4 * k + 2) = V := by rw [FA, if_neg (by omega), if_pos (by omega)]
        have A3 : ma F 36 (4 * k + 3) = v := by rw [FA, if_pos (by omega)]
        simp only [A0, A1, A2, A3]
        rw [m0]
        exact ⟨rfl, rfl, rfl, rfl, ⟨w7, hk2, hk3, hVf⟩, ⟨w7, hk2, hk3, hf⟩⟩
      · refine (hc k (by omega)).cg (by rw [t3, T6, if_neg c]) (fun a o g ht => ?_) m0.symm (fun j hj => ?_)
        · rw [xo] at g
          exact fo a o g (by omega)
        · show ma F 36 (4 * k + j) = ma Ms 36 (4 * k + j)
          rw [FA, if_neg (by omega), if_neg (by omega), if_neg (by omega), if_neg (by omega)]
    · exact h3.cg (D 10 (by omega)) (by rw [fa]) (G 6 (by omega)) (H 7 (by omega) (by decide))
    · exact h4.cg (fr 11 (by decide)) (fun a o g t => fo a o g (by omega)) (G 8 (by omega)) (G 9 (by omega)) (H 10 (by omega) (by decide)) (H 11 (by omega) (by decide)) (H 12 (by omega) (by decide)) (H 13 (by omega) (by decide))
    · exact h5.cg (D 29 (by omega)) (D 30 (by omega)) (D 31 (by omega)) (D 32 (by omega)) (D 33 (by omega)) (D 34 (by omega)) le0 (G 24 (by omega)) (G 25 (by omega)) (H 27 (by omega) (by decide))
    · exact h6.cg (D 35 (by omega)) (D 37 (by omega)) (D 38 (by omega)) (D 39 (by omega)) (D 40 (by omega)) (D 41 (by omega)) (D 42 (by omega)) (D 43 (by omega)) (by rw [fa]) le0 (G 28 (by omega)) (G 29 (by omega)) (G 30 (by omega)) (G 31 (by omega)) (H 32 (by omega) (by decide)) (H 33 (by omega) (by decide))
    · exact h7.cg (D 44 (by omega)) (by rw [fa]) (G 39 (by omega)) (H 40 (by omega) (by decide))
    · exact h8.cg (D 47 (by omega)) (fr 46 (by decide)) (fun a o g t => fo a o g (by omega)) (G 37 (by omega)) (H 38 (by omega) (by decide))
    · exact h9.cg (fr 48 (by decide)) (fr 46 (by decide)) (fun a o g t => fo a o g (by omega)) (G 37 (by omega)) (H 41 (by omega) (by decide)) (H 42 (by omega) (by decide)) FL
theorem law_mend {X : XS} {M : MS} (h : R X M) {N : Nat} (hN : 200 ≤ N) (p w v : Int32) : sameP (fun Q => x_mend Q N 1000 X p w v) (m_mend N M p w v) := by
  have hR := h
  obtain ⟨p, hp, rfl⟩ := izE p
  obtain ⟨w, hw, rfl⟩ := izE w
  obtain ⟨v, hv, rfl⟩ := izE v
  obtain ⟨h1, h2, h3, h4, h5, h6, h7, h8, h9⟩ := h
  unfold sameP x_mend m_mend
  have o1 := x_isOf_iz h1 hp hw
  have o2 := m_isOf_iz h1 hp hw
  have f1 := mayBe_iz hw hv
  have f2 := isFit_iz hw hv
  cases hk : okOfB (mi M 0) p w with
  | false =>
    rw [hk] at o1 o2
    exact ⟨_, _, bindE o2 (iteTE rfl rfl), bindP_eq o1 (iteT rfl ⟨rfl, hR⟩)⟩
  | true =>
  rw [hk] at o1 o2
  cases hf : fitB w v with
  | false =>
    rw [hf] at f1 f2
    exact ⟨_, _, bindE o2 (iteFE b2iT (bindE f2 (iteTE rfl rfl))), bindP_eq o1 (iteF b2iT (bindP_eq f1 (iteT rfl ⟨rfl, hR⟩)))⟩
  | true =>
  rw [hf] at f1 f2
  have hf' := fitB_iff.mp hf
  have hk' := okOfB_t hk
  have g1 := x_valueOf_iz h1 hk'
  have g2 := m_get_iz h1 hk'
  generalize hV : valOf M p w = V at g1 g2
  have hVr : 0 ≤ V ∧ V ≤ 999 := by rw [← hV]; exact fit_R (val_fit h1 hk')
  have n9 := h1.1.2
  have eq : (iz V = iz v) ↔ V = v := iz_eq (by omega)
  by_cases c : V = v
  · refine ⟨iz V, M, bindE o2 (iteFE b2iT (bindE f2 (iteFE b2iT (bindE g2 (iteTE (eq.mpr c) rfl))))), bindP_eq o1 (iteF b2iT (bindP_eq f1 (iteF b2iT (bindP_eq g1 ⟨1, 999, rfl, ?_⟩))))⟩
    unfold x_become
    exact iteT (eq.mpr c) ⟨rfl, hR⟩
  obtain ⟨X1, M1, -, s2, -, -, s5⟩ := set_to h1 hk'.1 hk'.2.1 hk'.2.2 hf'
  obtain ⟨c1, c2, c3⟩ := RC_iff.mp h2
  have M35 : M1.1 35 = M.1 35 := by rw [s5.1]
  by_cases d : mi M 35 = 40
  · have T40 : ∀ k : Nat, k < 40 → ∃ (a : Nat) (o : XO), (xI X 8 0).2.2.1 6 k = some a ∧ getO (xI X 8 0) a 4 = some o := fun k hk => by
      obtain ⟨a, o, q1, q2, q3, -⟩ := c3 k (by omega)
      exact ⟨a, o, q1, getO_eq q2 q3⟩
    obtain ⟨Y, y1, y2, y3, y4, y5⟩ := m_shift_l N (l1 := iz p) (l2 := iz w) (l3 := iz v) (l4 := iz V) M1 N 0 M1 (by omega) (by omega) rfl rfl (fun _ _ => rfl) (fun j => by rw [if_neg (by omega)])
    have xd : X.1 7 = iz 40 := by rw [c1.1, d]
    have md : M.1 35 = iz 40 := by rw [mi_eq, d]
    have mk : ∀ j, ma M1 36 j = ma M 36 j := ma_cg (s5.2.1 36 (by decide) (by decide) (by decide) (by decide) (by decide))
    have key : ∀ (Z : XS), Z.1 = (xI X 8 0).1 → Z.2.1 = (xI X 8 0).2.1 → Z.2.2.2 = (xI X 8 0).2.2.2 → (∀ r, r ≠ 6 → Z.2.2.1 r = (xI X 8 0).2.2.1 r) → (∀ j, j < 39 → Z.2.2.1 6 j = (xI X 8 0).2.2.1 6 (j + 1)) → ∃ Mf, m_mend_b95 N (iz p) (iz w) (iz v) (iz V) (sI Y 35 (M1.1 35 - 1)) = some (iz V, Mf) ∧ x_become_b64 (fun v' X' => v' = iz V ∧ R X' Mf) N (iz w) (iz p) (iz V) (iz v) 1 (xI Z 7 ((xI X 8 0).1 7 - 1)) := by
      intro Z z1 z2 z3 z4 z5
      refine mend_push hR N 39 (by omega) hv hk' hf' hV.symm hp s2 s5 ?_ ?_ (fun k k7 k8 => ?_) z2 z3 z4 ?_ (fun k hk => ?_) (fun r hr => ?_) y3 (fun k hk => ?_)
      · show X.1 7 - 1 = _
        rw [xd]; rfl
      · show Z.1 8 = 0
        rw [z1]; rfl
      · rw [xI1, if_neg k7, z1, xI1, if_neg k8]
      · show M1.1 35 - 1 = _
        rw [M35, md]; rfl
      · rw [sI1, if_neg hk, y2, s5.1]
      · exact y4 r hr
      · have g := c3 (k + 1) (by omega)
        obtain ⟨a, o, q1, q2, q3, q4, q5, q6, q7, q8⟩ := g
        have A : ∀ j, j < 4 → ma (sI Y 35 (M1.1 35 - 1)) 36 (4 * k + j) = ma M 36 (4 * (k + 1) + j) := fun j hj => by
          rw [ma_sI, ← mk]
          unfold ma
          rw [y5 _ (by omega), show 4 * k + j + 4 = 4 * (k + 1) + j by omega]
        unfold chR
        dsimp only
        rw [A 0 (by omega), A 1 (by omega), A 2 (by omega), A 3 (by omega)]
        refine ⟨a, o, ?_, ?_, q3, q4, q5, q6, q7, q8⟩
        · show Z.2.2.1 6 k = _
          rw [z5 k (by omega)]; exact q1
        · show Z.2.2.2 a = _
          rw [z3]; exact q2
    obtain ⟨Z0, -, w1, w2, w3, w4, w5⟩ := x_shift_l (Q := fun _ _ => True) (l1 := iz w) (l2 := iz p) (l3 := iz V) (l4 := iz v) (m := 1) N (xI X 8 0) T40 N 1 (xI X 8 0) (by omega) (by omega) (by omega) rfl rfl rfl (fun _ _ => rfl) (fun j => by rw [if_neg (by omega)])
    obtain ⟨Mf, r1, -⟩ := key Z0 w1 w2 w3 w4 w5
    refine ⟨iz V, Mf, bindE o2 (iteFE b2iT (bindE f2 (iteFE b2iT (bindE g2 (iteFE (fun q => c (eq.mp q)) (bindE s2 (iteTE (by rw [M35, md]; rfl) (y1.trans r1)))))))), bindP_eq o1 (iteF b2iT (bindP_eq f1 (iteF b2iT (bindP_eq g1 ⟨1, 999, rfl, ?_⟩))))⟩
    unfold x_become
    refine iteF (fun q => c (eq.mp q)) ?_
    rw [nmP_eq]
    refine iteT (by show X.1 7 = 40; rw [xd]; rfl) ?_
    obtain ⟨Z, z0, z1, z2, z3, z4, z5⟩ := x_shift_l (Q := fun v' X' => v' = iz V ∧ R X' Mf) (l1 := iz w) (l2 := iz p) (l3 := iz V) (l4 := iz v) (m := 1) N (xI X 8 0) T40 N 1 (xI X 8 0) (by omega) (by omega) (by omega) rfl rfl rfl (fun _ _ => rfl) (fun j => by rw [if_neg (by omega)])
    refine z0 ?_
    obtain ⟨Mf', r1', r2'⟩ := key Z z1 z2 z3 z4 z5
    rw [r1] at r1'
    cases r1'
    exact r2'
  · obtain ⟨e, he⟩ : ∃ e : Nat, mi M 35 = e := ⟨(mi M 35).toNat, by omega⟩
    have xd : X.1 7 = iz e := by rw [c1.1, he]
    have md : M.1 35 = iz e := by rw [mi_eq, he]
    have mk : ∀ j, ma M1 36 j = ma M 36 j := ma_cg (s5.2.1 36 (by decide) (by decide) (by decide) (by decide) (by decide))
    obtain ⟨Mf, r1, r2⟩ := mend_push (Xs := xI X 8 0) (Ms := M1) hR N e (by omega) hv hk' hf' hV.symm hp s2 s5 xd rfl (fun k k7 k8 => by rw [xI1, if_neg k8]) rfl rfl (fun _ _ => rfl) (by rw [M35, md]) (fun k _ => by rw [s5.1]) (fun _ _ => rfl) rfl (fun k hk => (c3 k (by omega)).cg rfl (fun _ _ g _ => g) rfl (fun j hj => mk _))
    have e40 : ¬ iz e = (40 : Int32) := by rw [show (40 : Int32) = iz 40 from rfl, iz_eq (by omega)]; omega
    refine ⟨iz V, Mf, bindE o2 (iteFE b2iT (bindE f2 (iteFE b2iT (bindE g2 (iteFE (fun q => c (eq.mp q)) (bindE s2 (iteFE (by rw [M35, md]; exact e40) r1))))))), bindP_eq o1 (iteF b2iT (bindP_eq f1 (iteF b2iT (bindP_eq g1 ⟨1, 999, rfl, ?_⟩))))⟩
    unfold x_become
    refine iteF (fun q => c (eq.mp q)) ?_
    rw [nmP_eq]
    exact iteF (by show ¬ X.1 7 = 40; rw [xd]; exact e40) r2
