/-! PLAIN LAW: is it a paper of a round. Own text. -/
set_option maxRecDepth 100000
theorem ispaper_l {X T : XS} {M S : MS} {s n D E : Nat} {q t : Nat → Int} (hs : s < 6) (hn : n ≤ 60) (h26 : T.1 26 = iz n) (h42 : ma S 42 s = n) (h25 : ∀ j, j < n → T.2.1 25 j = (S.2.2 (60 * s + j)).toInt32) (hD : D ≤ 4000) (hE : E ≤ 30) (h17 : T.1 17 = iz D) (h46 : S.1 46 = iz E) (hDE : ∀ i, i < 30 → (i < D ↔ i < E)) (hx : ∀ j, j < D → T.2.1 14 j = iz (q j) ∧ T.2.1 15 j = iz (t j)) (hm : ∀ j, j < E → S.2.1 48 j = iz (q j) ∧ S.2.1 47 j = iz (t j)) (N : Nat) (hev : n % 2 = 0) : ∀ (k i : Nat), 2 * i ≤ n → 31 - i < k → ∃ b, x_isPaper_b14 N T k (iz i) = some b ∧ m_isPaper_b8 N (iz s) k S (iz i) = some (b, S) := by
  intro k
  induction k with
  | zero => intro i h1 h2; omega
  | succ k ih =>
    intro i h1 h2
    have e2 : 2 * iz i = iz ((2 * i : Nat) : Int) := by rw [show (2 : Int32) = iz 2 from rfl, iz_mul]; rfl
    have e21 : iz ((2 * i : Nat) : Int) + 1 = iz ((2 * i + 1 : Nat) : Int) := by rw [show (1 : Int32) = iz 1 from rfl, iz_add]; rfl
    have m42 : S.2.1 42 (iz s).toNatClampNeg = iz n := by rw [iz_clampN (by omega), ma_eq, h42]
    have ni : iz i + 1 = iz ((i + 1 : Nat) : Int) := by rw [show (1 : Int32) = iz 1 from rfl, iz_add]; rfl
    rw [x_isPaper_b14, m_isPaper_b8]
    simp only [nmE]
    rw [h26, h17, h46, m42, e2, e21, ni]
    by_cases c : n ≤ 2 * i
    · exact ⟨true, iteTE (by rw [iz_le (by omega)]; omega) rfl, chkE rfl (by omega) (iteTE (by rw [iz_le (by omega)]; omega) rfl)⟩
    have c1 : ¬ iz n ≤ iz ((2 * i : Nat) : Int) := by rw [iz_le (by omega)]; omega
    have c2 : ¬ iz n ≤ iz ((2 * i + 1 : Nat) : Int) := by rw [iz_le (by omega)]; omega
    have de := hDE i (by omega)
    have a1 : T.2.1 25 (iz ((2 * i : Nat) : Int)).toNatClampNeg = (S.2.2 (60 * s + 2 * i)).toInt32 := by rw [iz_clampN (by omega), h25 _ (by omega)]
    have a2 : T.2.1 25 (iz ((2 * i + 1 : Nat) : Int)).toNatClampNeg = (S.2.2 (60 * s + (2 * i + 1))).toInt32 := by rw [iz_clampN (by omega), h25 _ (by omega)]
    have t1 := toldAt_iz S (s := s) (j := 2 * i) hs (by omega)
    have t2 := toldAt_iz S (s := s) (j := 2 * i + 1) hs (by omega)
    by_cases d : i < D
    · obtain ⟨x1, x2⟩ := hx i d
      obtain ⟨m1, m2⟩ := hm i (de.mp d)
      have d1 : ¬ iz D ≤ iz i := by rw [iz_le (by omega)]; omega
      have d2 : iz i < iz E := by rw [iz_lt (by omega)]; omega
      rw [a1, a2, iz_clampN (n := i) (by omega), x1, x2, m1, m2]
      by_cases u : iz (q i) = (S.2.2 (60 * s + 2 * i)).toInt32
      · by_cases w : iz (t i) = (S.2.2 (60 * s + (2 * i + 1))).toInt32
        · obtain ⟨b, b1, b2⟩ := ih (i + 1) (by omega) (by omega)
          exact ⟨b, iteFE c1 (iteFE d1 (chkE rfl (by omega) (chkE rfl (by omega) (iteTE u (chkE rfl (by omega) (chkE rfl (by omega) (iteTE w b1))))))), chkE rfl (by omega) (iteFE c1 (chkE rfl (by omega) (iteFE c2 (iteTE d2 (bindE t1 (chkE rfl (by omega) (iteTE u.symm (bindE t2 (chkE rfl (by omega) (iteTE w.symm b2))))))))))⟩
        · exact ⟨false, iteFE c1 (iteFE d1 (chkE rfl (by omega) (chkE rfl (by omega) (iteTE u (chkE rfl (by omega) (chkE rfl (by omega) (iteFE w rfl))))))), chkE rfl (by omega) (iteFE c1 (chkE rfl (by omega) (iteFE c2 (iteTE d2 (bindE t1 (chkE rfl (by omega) (iteTE u.symm (bindE t2 (chkE rfl (by omega) (iteFE (fun z => w z.symm) rfl))))))))))⟩
      · exact ⟨false, iteFE c1 (iteFE d1 (chkE rfl (by omega) (chkE rfl (by omega) (iteFE u rfl)))), chkE rfl (by omega) (iteFE c1 (chkE rfl (by omega) (iteFE c2 (iteTE d2 (bindE t1 (chkE rfl (by omega) (iteFE (fun z => u z.symm) rfl)))))))⟩
    · exact ⟨false, iteFE c1 (iteTE (by rw [iz_le (by omega)]; omega) rfl), chkE rfl (by omega) (iteFE c1 (chkE rfl (by omega) (iteFE c2 (iteFE (by rw [iz_lt (by omega)]; omega) rfl))))⟩
theorem notpaper_l {S : MS} {s n E : Nat} {q t : Nat → Int} (hs : s < 6) (hn : n ≤ 60) (h42 : ma S 42 s = n) (hE : E ≤ 30) (h46 : S.1 46 = iz E) (hm : ∀ j, j < E → S.2.1 48 j = iz (q j) ∧ S.2.1 47 j = iz (t j)) (N : Nat) (hod : n % 2 = 1) : ∀ (k i : Nat), 2 * i ≤ n → 31 - i < k → m_isPaper_b8 N (iz s) k S (iz i) = some (false, S) := by
  intro k
  induction k with
  | zero => intro i h1 h2; omega
  | succ k ih =>
    intro i h1 h2
    have e2 : 2 * iz i = iz ((2 * i : Nat) : Int) := by rw [show (2 : Int32) = iz 2 from rfl, iz_mul]; rfl
    have e21 : iz ((2 * i : Nat) : Int) + 1 = iz ((2 * i + 1 : Nat) : Int) := by rw [show (1 : Int32) = iz 1 from rfl, iz_add]; rfl
    have m42 : S.2.1 42 (iz s).toNatClampNeg = iz n := by rw [iz_clampN (by omega), ma_eq, h42]
    have ni : iz i + 1 = iz ((i + 1 : Nat) : Int) := by rw [show (1 : Int32) = iz 1 from rfl, iz_add]; rfl
    rw [m_isPaper_b8]
    simp only [nmE]
    rw [h46, m42, e2, e21, ni]
    have c1 : ¬ iz n ≤ iz ((2 * i : Nat) : Int) := by rw [iz_le (by omega)]; omega
    by_cases c : n ≤ 2 * i + 1
    · exact chkE rfl (by omega) (iteFE c1 (chkE rfl (by omega) (iteTE (by rw [iz_le (by omega)]; omega) rfl)))
    have c2 : ¬ iz n ≤ iz ((2 * i + 1 : Nat) : Int) := by rw [iz_le (by omega)]; omega
    have t1 := toldAt_iz S (s := s) (j := 2 * i) hs (by omega)
    have t2 := toldAt_iz S (s := s) (j := 2 * i + 1) hs (by omega)
    by_cases d : i < E
    · obtain ⟨m1, m2⟩ := hm i d
      have d2 : iz i < iz E := by rw [iz_lt (by omega)]; omega
      rw [iz_clampN (n := i) (by omega), m1, m2]
      by_cases u : iz (q i) = (S.2.2 (60 * s + 2 * i)).toInt32
      · by_cases w : iz (t i) = (S.2.2 (60 * s + (2 * i + 1))).toInt32
        · exact chkE rfl (by omega) (iteFE c1 (chkE rfl (by omega) (iteFE c2 (iteTE d2 (bindE t1 (chkE rfl (by omega) (iteTE u.symm (bindE t2 (chkE rfl (by omega) (iteTE w.symm (ih (i + 1) (by omega) (by omega))))))))))))
        · exact chkE rfl (by omega) (iteFE c1 (chkE rfl (by omega) (iteFE c2 (iteTE d2 (bindE t1 (chkE rfl (by omega) (iteTE u.symm (bindE t2 (chkE rfl (by omega) (iteFE (fun z => w z.symm) rfl))))))))))
      · exact chkE rfl (by omega) (iteFE c1 (chkE rfl (by omega) (iteFE c2 (iteTE d2 (bindE t1 (chkE rfl (by omega) (iteFE (fun z => u z.symm) rfl)))))))
    · exact chkE rfl (by omega) (iteFE c1 (chkE rfl (by omega) (iteFE c2 (iteFE (by rw [iz_lt (by omega)]; omega) rfl))))
theorem ispaper_iz {T : XS} {S : MS} {s n D E : Nat} {q t : Nat → Int} (hs : s < 6) (hn : n ≤ 60) (h26 : T.1 26 = iz n) (h42 : ma S 42 s = n) (h25 : ∀ j, j < n → T.2.1 25 j = (S.2.2 (60 * s + j)).toInt32) (hD : D ≤ 4000) (hE : E ≤ 30) (h17 : T.1 17 = iz D) (h46 : S.1 46 = iz E) (hDE : ∀ i, i < 30 → (i < D ↔ i < E)) (hx : ∀ j, j < D → T.2.1 14 j = iz (q j) ∧ T.2.1 15 j = iz (t j)) (hm : ∀ j, j < E → S.2.1 48 j = iz (q j) ∧ S.2.1 47 j = iz (t j)) {N : Nat} (hN : 100 ≤ N) : ∃ b, x_isPaper N T = some b ∧ m_isPaper_b8 N (iz s) N S 0 = some (b, S) := by
  unfold x_isPaper
  have j2 : jrem (T.1 26) 2 = iz ((n % 2 : Nat) : Int) := by rw [h26, show (2 : Int32) = iz 2 from rfl, jrem_iz (by omega)]; rfl
  rw [j2]
  by_cases c : n % 2 = 1
  · exact ⟨false, iteTE (by rw [c]; rfl) rfl, notpaper_l hs hn h42 hE h46 hm N c N 0 (by omega) (by omega)⟩
  · obtain ⟨b, b1, b2⟩ := ispaper_l (X := T) (M := S) hs hn h26 h42 h25 hD hE h17 h46 hDE hx hm N (by omega) N 0 (by omega) (by omega)
    exact ⟨b, iteFE (by rw [show (1 : Int32) = iz 1 from rfl, iz_eq (by omega)]; omega) b1, b2⟩
