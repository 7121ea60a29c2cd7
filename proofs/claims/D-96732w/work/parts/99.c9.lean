/-! PLAIN LAW: the seen minutes of the component, both ways. Own text, printed by mk99c9.py. -/
set_option maxRecDepth 100000
/-- what stays when dents are looked at -/
def Kp (U U' : XS) (f : Nat) : Prop := U'.1 = U.1 ∧ (∀ r, r ≠ f → U'.2.1 r = U.2.1 r) ∧ U'.2.2 = U.2.2
/-- the dents of a way, laid in the component -/
def XW (M : MS) (U : XS) (D : Nat) (q t : Nat → Int) : Prop := D ≤ 4000 ∧ U.1 17 = iz D ∧ ∀ j, j < D → (U.2.1 14 j = iz (q j) ∧ U.2.1 15 j = iz (t j)) ∧ (0 ≤ q j ∧ q j ≤ 8) ∧ 0 ≤ t j ∧ t j ≤ 1999
theorem XW.kp {M : MS} {U U' : XS} {D : Nat} {q t : Nat → Int} (h : XW M U D q t) {f : Nat} (hf : f ≠ 14 ∧ f ≠ 15) (k : Kp U U' f) : XW M U' D q t := by
  obtain ⟨h1, h2, h3⟩ := h
  refine ⟨h1, by rw [k.1]; exact h2, fun j hj => ?_⟩
  rw [k.2.1 14 (fun z => hf.1 z.symm), k.2.1 15 (fun z => hf.2 z.symm)]
  exact h3 j hj
def Sn (i : Nat) (q t : Nat → Int) (vis p w : Int) : Prop := ∃ j, j < i ∧ q j = p ∧ t j ≤ w ∧ w < t j + vis
theorem ls3_23 {M : MS} {D : Nat} {q t : Nat → Int} (N : Nat) {vis p : Int} (hv : 1 ≤ vis ∧ vis ≤ 9) (hp : 0 ≤ p ∧ p < 9) {i : Nat} (hi : i < D) (k40 : XS → Int32 → Option XS) : ∀ (n w0 : Nat) (U : XS), 2100 - w0 < n → w0 ≤ 2010 → t i ≤ w0 → XW M U D q t → ∃ U', x_laySeen_23_b58 N (iz p) (iz vis) (iz i) k40 n U (iz w0) = k40 U' (iz ((i + 1 : Nat) : Int)) ∧ Kp U U' 23 ∧ ∀ w : Nat, w < 1000 → U'.2.1 23 w = if q i = p ∧ w0 ≤ w ∧ (w : Int) < t i + vis then 1 else U.2.1 23 w := by
  intro n
  induction n with
  | zero => intro w0 U h1 h2; omega
  | succ n ih =>
    intro w0 U h1 h2 h3 hx
    have D4 := hx.1
    obtain ⟨⟨a1, a2⟩, a3, a4⟩ := hx.2.2 i hi
    have ni : iz i + 1 = iz ((i + 1 : Nat) : Int) := by rw [show (1 : Int32) = iz 1 from rfl, iz_add]; rfl
    have nw : iz w0 + 1 = iz ((w0 + 1 : Nat) : Int) := by rw [show (1 : Int32) = iz 1 from rfl, iz_add]; rfl
    rw [x_laySeen_23_b58]
    simp only [nmE]
    rw [iz_clampN (n := i) (by omega), a1, a2, iz_add, ni]
    by_cases c : t i + vis ≤ w0
    · exact ⟨U, chkE rfl (by omega) (iteTE ((iz_le (by omega)).mpr c) rfl), ⟨rfl, fun _ _ => rfl, rfl⟩, fun w hw => by rw [if_neg (by omega)]⟩
    have cc : ¬ iz (t i + vis) ≤ iz w0 := fun z => c ((iz_le (by omega)).mp z)
    have e9 : ((999 : Int32) < iz w0) ↔ 999 < w0 := by rw [show (999 : Int32) = iz 999 from rfl, iz_lt (by omega)]; omega
    by_cases d : 999 < w0
    · exact ⟨U, chkE rfl (by omega) (iteFE cc (iteTE (e9.mpr d) rfl)), ⟨rfl, fun _ _ => rfl, rfl⟩, fun w hw => by rw [if_neg (by omega)]⟩
    have dd : ¬ (999 : Int32) < iz w0 := fun z => d (e9.mp z)
    by_cases e : q i = p
    · obtain ⟨U', g1, g2, g3⟩ := ih (w0 + 1) (xA U 23 w0 1) (by omega) (by omega) (by omega) (hx.kp (f := 23) (by omega) ⟨rfl, fun r hr => by funext j; rw [xA21, if_neg hr], rfl⟩)
      refine ⟨U', chkE rfl (by omega) (iteFE cc (iteFE dd (chkE rfl (by omega) (iteTE (by rw [e]) (chkE rfl (by omega) ?_))))), ⟨g2.1, fun r hr => ?_, g2.2.2⟩, fun w hw => ?_⟩
      · rw [nw, iz_clampN (by omega)]; exact g1
      · rw [g2.2.1 r hr]
        funext j
        rw [xA21, if_neg hr]
      · rw [g3 w hw, xA21, if_pos rfl]
        by_cases z : w = w0
        · rw [if_pos z, if_neg (by omega), if_pos (by omega)]
        · rw [if_neg z]
          by_cases y : q i = p ∧ w0 ≤ w ∧ (w : Int) < t i + vis
          · rw [if_pos y, if_pos (by omega)]
          · rw [if_neg y, if_neg (by omega)]
    · refine ⟨U, chkE rfl (by omega) (iteFE cc (iteFE dd (chkE rfl (by omega) (iteFE (by rw [iz_eq (by omega)]; exact e) rfl)))), ⟨rfl, fun _ _ => rfl, rfl⟩, fun w hw => by rw [if_neg (fun z => e z.1)]⟩
theorem ls2_23 {M : MS} {D : Nat} {q t : Nat → Int} {N : Nat} (hN : 5000 ≤ N) {vis p : Int} (hv : 1 ≤ vis ∧ vis ≤ 9) (hp : 0 ≤ p ∧ p < 9) : ∀ (n i : Nat) (U : XS), D - i < n → i ≤ D → XW M U D q t → (∀ w : Nat, w < 1000 → (Sn i q t vis p w ∧ U.2.1 23 w = 1) ∨ (¬ Sn i q t vis p w ∧ U.2.1 23 w = 0)) → ∃ U', x_laySeen_23_b40 N (iz p) (iz vis) n U (iz i) = some U' ∧ Kp U U' 23 ∧ ∀ w : Nat, w < 1000 → (Sn D q t vis p w ∧ U'.2.1 23 w = 1) ∨ (¬ Sn D q t vis p w ∧ U'.2.1 23 w = 0) := by
  intro n
  induction n with
  | zero => intro i U h1 h2; omega
  | succ n ih =>
    intro i U h1 h2 hx hr
    have D4 := hx.1
    rw [x_laySeen_23_b40, hx.2.1]
    by_cases c : D ≤ i
    · obtain rfl : i = D := by omega
      exact ⟨U, iteTE (Int32.le_refl _) rfl, ⟨rfl, fun _ _ => rfl, rfl⟩, hr⟩
    obtain ⟨⟨a1, a2⟩, a3, a4⟩ := hx.2.2 i (by omega)
    obtain ⟨U1, g1, g2, g3⟩ := ls3_23 N hv hp (q := q) (t := t) (i := i) (by omega) (fun t y5 => x_laySeen_23_b40 N (iz p) (iz vis) n t y5) N (t i).toNat U (by omega) (by omega) (by omega) hx
    obtain ⟨U', k1, k2, k3⟩ := ih (i + 1) U1 (by omega) (by omega) (hx.kp (by omega) g2) (fun w hw => by
      rw [g3 w hw]
      by_cases y : q i = p ∧ (t i).toNat ≤ w ∧ (w : Int) < t i + vis
      · rw [if_pos y]
        exact Or.inl ⟨⟨i, by omega, y.1, by omega, y.2.2⟩, rfl⟩
      · rw [if_neg y]
        rcases hr w hw with ⟨⟨j, j1, j2⟩, e⟩ | ⟨e1, e⟩
        · exact Or.inl ⟨⟨j, by omega, j2⟩, e⟩
        · refine Or.inr ⟨fun ⟨j, j1, j2, j3, j4⟩ => ?_, e⟩
          by_cases z : j = i
          · subst z; exact y ⟨j2, by omega, j4⟩
          · exact e1 ⟨j, by omega, j2, j3, j4⟩)
    refine ⟨U', iteFE (by rw [iz_le (by omega)]; omega) (chkE rfl (by omega) ?_), ⟨k2.1.trans g2.1, fun r hr' => (k2.2.1 r hr').trans (g2.2.1 r hr'), k2.2.2.trans g2.2.2⟩, k3⟩
    rw [nmE, iz_clampN (by omega), a2, show iz (t i) = iz (((t i).toNat : Nat) : Int) by congr 1; omega]
    exact g1.trans k1
theorem ls1_23 {M : MS} {D : Nat} {q t : Nat → Int} {N : Nat} (hN : 5000 ≤ N) {vis p : Int} (hv : 1 ≤ vis ∧ vis ≤ 9) (hp : 0 ≤ p ∧ p < 9) : ∀ (n i : Nat) (U : XS), i ≤ 1000 → 1000 - i < n → XW M U D q t → (∀ w, w < i → U.2.1 23 w = 0) → ∃ U', x_laySeen_23_b18 N (iz p) (iz vis) n U (iz i) = some U' ∧ Kp U U' 23 ∧ ∀ w : Nat, w < 1000 → (Sn D q t vis p w ∧ U'.2.1 23 w = 1) ∨ (¬ Sn D q t vis p w ∧ U'.2.1 23 w = 0) := by
  intro n
  induction n with
  | zero => intro i U h1 h2; omega
  | succ n ih =>
    intro i U h1 h2 hx hr
    have D4 := hx.1
    rw [x_laySeen_23_b18]
    have e9 : ((999 : Int32) < iz i) ↔ 999 < i := by rw [show (999 : Int32) = iz 999 from rfl, iz_lt (by omega)]; omega
    by_cases c : 999 < i
    · obtain ⟨U', k1, k2, k3⟩ := ls2_23 hN hv hp N 0 U (by omega) (by omega) hx (fun w hw => Or.inr ⟨fun ⟨j, j1, _⟩ => absurd j1 (by omega), hr w (by omega)⟩)
      exact ⟨U', iteTE (e9.mpr c) k1, k2, k3⟩
    have ni : iz i + 1 = iz ((i + 1 : Nat) : Int) := by rw [show (1 : Int32) = iz 1 from rfl, iz_add]; rfl
    have kp : Kp U (xA U 23 i 0) 23 := ⟨rfl, fun r hr => by funext j; rw [xA21, if_neg hr], rfl⟩
    obtain ⟨U', k1, k2, k3⟩ := ih (i + 1) (xA U 23 i 0) (by omega) (by omega) (hx.kp (by omega) kp) (fun w hw => by
      rw [xA21, if_pos rfl]
      by_cases z : w = i
      · rw [if_pos z]
      · rw [if_neg z]; exact hr w (by omega))
    refine ⟨U', iteFE (fun z => c (e9.mp z)) (chkE rfl (by omega) ?_), ⟨k2.1, fun r hr' => (k2.2.1 r hr').trans (kp.2.1 r hr'), k2.2.2⟩, k3⟩
    rw [nmE, nmE, ni, iz_clampN (by omega)]
    exact k1
theorem ls3_24 {M : MS} {D : Nat} {q t : Nat → Int} (N : Nat) {vis p : Int} (hv : 1 ≤ vis ∧ vis ≤ 9) (hp : 0 ≤ p ∧ p < 9) {i : Nat} (hi : i < D) (k40 : XS → Int32 → Option XS) : ∀ (n w0 : Nat) (U : XS), 2100 - w0 < n → w0 ≤ 2010 → t i ≤ w0 → XW M U D q t → ∃ U', x_laySeen_24_b58 N (iz p) (iz vis) (iz i) k40 n U (iz w0) = k40 U' (iz ((i + 1 : Nat) : Int)) ∧ Kp U U' 24 ∧ ∀ w : Nat, w < 1000 → U'.2.1 24 w = if q i = p ∧ w0 ≤ w ∧ (w : Int) < t i + vis then 1 else U.2.1 24 w := by
  intro n
  induction n with
  | zero => intro w0 U h1 h2; omega
  | succ n ih =>
    intro w0 U h1 h2 h3 hx
    have D4 := hx.1
    obtain ⟨⟨a1, a2⟩, a3, a4⟩ := hx.2.2 i hi
    have ni : iz i + 1 = iz ((i + 1 : Nat) : Int) := by rw [show (1 : Int32) = iz 1 from rfl, iz_add]; rfl
    have nw : iz w0 + 1 = iz ((w0 + 1 : Nat) : Int) := by rw [show (1 : Int32) = iz 1 from rfl, iz_add]; rfl
    rw [x_laySeen_24_b58]
    simp only [nmE]
    rw [iz_clampN (n := i) (by omega), a1, a2, iz_add, ni]
    by_cases c : t i + vis ≤ w0
    · exact ⟨U, chkE rfl (by omega) (iteTE ((iz_le (by omega)).mpr c) rfl), ⟨rfl, fun _ _ => rfl, rfl⟩, fun w hw => by rw [if_neg (by omega)]⟩
    have cc : ¬ iz (t i + vis) ≤ iz w0 := fun z => c ((iz_le (by omega)).mp z)
    have e9 : ((999 : Int32) < iz w0) ↔ 999 < w0 := by rw [show (999 : Int32) = iz 999 from rfl, iz_lt (by omega)]; omega
    by_cases d : 999 < w0
    · exact ⟨U, chkE rfl (by omega) (iteFE cc (iteTE (e9.mpr d) rfl)), ⟨rfl, fun _ _ => rfl, rfl⟩, fun w hw => by rw [if_neg (by omega)]⟩
    have dd : ¬ (999 : Int32) < iz w0 := fun z => d (e9.mp z)
    by_cases e : q i = p
    · obtain ⟨U', g1, g2, g3⟩ := ih (w0 + 1) (xA U 24 w0 1) (by omega) (by omega) (by omega) (hx.kp (f := 24) (by omega) ⟨rfl, fun r hr => by funext j; rw [xA21, if_neg hr], rfl⟩)
      refine ⟨U', chkE rfl (by omega) (iteFE cc (iteFE dd (chkE rfl (by omega) (iteTE (by rw [e]) (chkE rfl (by omega) ?_))))), ⟨g2.1, fun r hr => ?_, g2.2.2⟩, fun w hw => ?_⟩
      · rw [nw, iz_clampN (by omega)]; exact g1
      · rw [g2.2.1 r hr]
        funext j
        rw [xA21, if_neg hr]
      · rw [g3 w hw, xA21, if_pos rfl]
        by_cases z : w = w0
        · rw [if_pos z, if_neg (by omega), if_pos (by omega)]
        · rw [if_neg z]
          by_cases y : q i = p ∧ w0 ≤ w ∧ (w : Int) < t i + vis
          · rw [if_pos y, if_pos (by omega)]
          · rw [if_neg y, if_neg (by omega)]
    · refine ⟨U, chkE rfl (by omega) (iteFE cc (iteFE dd (chkE rfl (by omega) (iteFE (by rw [iz_eq (by omega)]; exact e) rfl)))), ⟨rfl, fun _ _ => rfl, rfl⟩, fun w hw => by rw [if_neg (fun z => e z.1)]⟩
theorem ls2_24 {M : MS} {D : Nat} {q t : Nat → Int} {N : Nat} (hN : 5000 ≤ N) {vis p : Int} (hv : 1 ≤ vis ∧ vis ≤ 9) (hp : 0 ≤ p ∧ p < 9) : ∀ (n i : Nat) (U : XS), D - i < n → i ≤ D → XW M U D q t → (∀ w : Nat, w < 1000 → (Sn i q t vis p w ∧ U.2.1 24 w = 1) ∨ (¬ Sn i q t vis p w ∧ U.2.1 24 w = 0)) → ∃ U', x_laySeen_24_b40 N (iz p) (iz vis) n U (iz i) = some U' ∧ Kp U U' 24 ∧ ∀ w : Nat, w < 1000 → (Sn D q t vis p w ∧ U'.2.1 24 w = 1) ∨ (¬ Sn D q t vis p w ∧ U'.2.1 24 w = 0) := by
  intro n
  induction n with
  | zero => intro i U h1 h2; omega
  | succ n ih =>
    intro i U h1 h2 hx hr
    have D4 := hx.1
    rw [x_laySeen_24_b40, hx.2.1]
    by_cases c : D ≤ i
    · obtain rfl : i = D := by omega
      exact ⟨U, iteTE (Int32.le_refl _) rfl, ⟨rfl, fun _ _ => rfl, rfl⟩, hr⟩
    obtain ⟨⟨a1, a2⟩, a3, a4⟩ := hx.2.2 i (by omega)
    obtain ⟨U1, g1, g2, g3⟩ := ls3_24 N hv hp (q := q) (t := t) (i := i) (by omega) (fun t y5 => x_laySeen_24_b40 N (iz p) (iz vis) n t y5) N (t i).toNat U (by omega) (by omega) (by omega) hx
    obtain ⟨U', k1, k2, k3⟩ := ih (i + 1) U1 (by omega) (by omega) (hx.kp (by omega) g2) (fun w hw => by
      rw [g3 w hw]
      by_cases y : q i = p ∧ (t i).toNat ≤ w ∧ (w : Int) < t i + vis
      · rw [if_pos y]
        exact Or.inl ⟨⟨i, by omega, y.1, by omega, y.2.2⟩, rfl⟩
      · rw [if_neg y]
        rcases hr w hw with ⟨⟨j, j1, j2⟩, e⟩ | ⟨e1, e⟩
        · exact Or.inl ⟨⟨j, by omega, j2⟩, e⟩
        · refine Or.inr ⟨fun ⟨j, j1, j2, j3, j4⟩ => ?_, e⟩
          by_cases z : j = i
          · subst z; exact y ⟨j2, by omega, j4⟩
          · exact e1 ⟨j, by omega, j2, j3, j4⟩)
    refine ⟨U', iteFE (by rw [iz_le (by omega)]; omega) (chkE rfl (by omega) ?_), ⟨k2.1.trans g2.1, fun r hr' => (k2.2.1 r hr').trans (g2.2.1 r hr'), k2.2.2.trans g2.2.2⟩, k3⟩
    rw [nmE, iz_clampN (by omega), a2, show iz (t i) = iz (((t i).toNat : Nat) : Int) by congr 1; omega]
    exact g1.trans k1
theorem ls1_24 {M : MS} {D : Nat} {q t : Nat → Int} {N : Nat} (hN : 5000 ≤ N) {vis p : Int} (hv : 1 ≤ vis ∧ vis ≤ 9) (hp : 0 ≤ p ∧ p < 9) : ∀ (n i : Nat) (U : XS), i ≤ 1000 → 1000 - i < n → XW M U D q t → (∀ w, w < i → U.2.1 24 w = 0) → ∃ U', x_laySeen_24_b18 N (iz p) (iz vis) n U (iz i) = some U' ∧ Kp U U' 24 ∧ ∀ w : Nat, w < 1000 → (Sn D q t vis p w ∧ U'.2.1 24 w = 1) ∨ (¬ Sn D q t vis p w ∧ U'.2.1 24 w = 0) := by
  intro n
  induction n with
  | zero => intro i U h1 h2; omega
  | succ n ih =>
    intro i U h1 h2 hx hr
    have D4 := hx.1
    rw [x_laySeen_24_b18]
    have e9 : ((999 : Int32) < iz i) ↔ 999 < i := by rw [show (999 : Int32) = iz 999 from rfl, iz_lt (by omega)]; omega
    by_cases c : 999 < i
    · obtain ⟨U', k1, k2, k3⟩ := ls2_24 hN hv hp N 0 U (by omega) (by omega) hx (fun w hw => Or.inr ⟨fun ⟨j, j1, _⟩ => absurd j1 (by omega), hr w (by omega)⟩)
      exact ⟨U', iteTE (e9.mpr c) k1, k2, k3⟩
    have ni : iz i + 1 = iz ((i + 1 : Nat) : Int) := by rw [show (1 : Int32) = iz 1 from rfl, iz_add]; rfl
    have kp : Kp U (xA U 24 i 0) 24 := ⟨rfl, fun r hr => by funext j; rw [xA21, if_neg hr], rfl⟩
    obtain ⟨U', k1, k2, k3⟩ := ih (i + 1) (xA U 24 i 0) (by omega) (by omega) (hx.kp (by omega) kp) (fun w hw => by
      rw [xA21, if_pos rfl]
      by_cases z : w = i
      · rw [if_pos z]
      · rw [if_neg z]; exact hr w (by omega))
    refine ⟨U', iteFE (fun z => c (e9.mp z)) (chkE rfl (by omega) ?_), ⟨k2.1, fun r hr' => (k2.2.1 r hr').trans (kp.2.1 r hr'), k2.2.2⟩, k3⟩
    rw [nmE, nmE, ni, iz_clampN (by omega)]
    exact k1
