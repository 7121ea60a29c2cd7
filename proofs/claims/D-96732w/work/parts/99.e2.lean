/-! PLAIN LAW: what is lost in a minute. Own text. -/
set_option maxRecDepth 100000
theorem gives_l {X T : XS} {M S0 : MS} (hX : T.2.2 = X.2.2) (hn : named T S0) {N : Nat} (hN : 300 ≤ N) {L : Nat} (hL : L ≤ 60) : ∀ (n i : Nat) (e : Option Nat) (S : MS) (fu : Nat), linesR X M n i e → i + n = L → n < fu → S.1 9 = iz L → (∀ r, r = 10 ∨ r = 11 ∨ r = 12 ∨ r = 13 → S.2.1 r = M.2.1 r) → S.2.1 23 = S0.2.1 23 → ∃ r S', x_gives_b5 N T fu e = some r ∧ m_loss_b82 N fu S (iz i) = some (jmax 0 (jmin 99 r), S') ∧ K22 S S' := by
  intro n
  induction n with
  | zero =>
    intro i e S fu h hi hf h9 hr e23
    obtain ⟨fu, rfl⟩ : ∃ f, fu = f + 1 := ⟨fu - 1, by omega⟩
    have he : e = none := h
    refine ⟨0, S, ?_, ?_, K22.rf S⟩
    · rw [x_gives_b5]
      exact iteTE he rfl
    · rw [m_loss_b82]
      exact iteTE (by rw [h9, iz_le (by omega)]; omega) rfl
  | succ n ih =>
    intro i e S fu h hi hf h9 hr e23
    obtain ⟨fu, rfl⟩ : ∃ f, fu = f + 1 := ⟨fu - 1, by omega⟩
    obtain ⟨a, o, he, ho, o6, ⟨b0, b200⟩, ⟨g, c, g1, g2, g3⟩, ht, hl⟩ := h
    subst he
    have hoT : T.2.2.2 a = some o := by rw [hX]; exact ho
    have go := getO_eq hoT o6
    have e10 : ∀ j, ma S 10 j = ma M 10 j := fun j => ma_cg (hr 10 (Or.inl rfl)) j
    have e11 : ∀ j, ma S 11 j = ma M 11 j := fun j => ma_cg (hr 11 (Or.inr (Or.inl rfl))) j
    have e12 : ∀ j, ma S 12 j = ma M 12 j := fun j => ma_cg (hr 12 (Or.inr (Or.inr (Or.inl rfl)))) j
    have sl : ∀ {x y : Int} {c : List Int}, codeSl M x y c → codeSl S x y c := fun q => q.cg (hr 13 (Or.inr (Or.inr (Or.inr rfl))))
    have c10 : S.2.1 10 (iz i).toNatClampNeg = iz (ma M 10 i) := by rw [iz_clampN (by omega), ma_eq S 10, e10]
    have c11 : S.2.1 11 (iz i).toNatClampNeg = iz (ma M 11 i) := by rw [iz_clampN (by omega), ma_eq S 11, e11]
    have c12 : S.2.1 12 (iz i).toNatClampNeg = iz (ma M 12 i) := by rw [iz_clampN (by omega), ma_eq S 12, e12]
    have r1 : ma M 10 i ≤ ma M 11 i ∧ ma M 11 i ≤ ma M 12 i := by
      constructor
      · rcases ht with ⟨_, q⟩ | ⟨t, ct, _, _, q, _⟩
        · omega
        · have := q.1; omega
      · have := g3.1; omega
    have np : iz i + 1 = iz ((i + 1 : Nat) : Int) := by rw [show (1 : Int32) = iz 1 from rfl, iz_add]; rfl
    have lt9 : ¬ S.1 9 ≤ iz i := by rw [h9, iz_le (by omega)]; omega
    -- the answer of this line
    have ans : ∀ S1 : MS, K22 S S1 → ∃ r S', x_val 130 T g = some r ∧ m_loss_b132 N (iz i) S1 = some (jmax 0 (jmin 99 r), S') ∧ K22 S S' := fun S1 k1 => by
      obtain ⟨v, S', v1, v2, v3⟩ := worked_iz hX (S := S1) (fun k k0 k5 => by rw [k1.2.2 23 (by decide), e23]; exact hn k k0 k5) hN g2 ((sl g3).cg (k1.2.2 13 (by decide))) (by omega) b200
      refine ⟨v, S', v1, ?_, k1.tr v3⟩
      unfold m_loss_b132
      refine chkE rfl (by omega) (chkE rfl (by omega) ?_)
      rw [k1.2.2 11 (by decide), k1.2.2 12 (by decide), c11, c12]
      exact b2E v2 rfl
    rcases ht with ⟨t0, te⟩ | ⟨t, ct, t0, t1, t2, t3⟩
    · obtain ⟨r, S', a1, a2, a3⟩ := ans S (K22.rf S)
      refine ⟨r, S', ?_, ?_, a3⟩
      · rw [x_gives_b5]
        exact iteFE (by simp) (bindE rfl (bindE go (iteTE t0 (bindE rfl (bindE go (bindE g1 (bindE a1 rfl)))))))
      · rw [m_loss_b82]
        refine iteFE lt9 (chkE rfl (by omega) (chkE rfl (by omega) (iteTE ?_ a2)))
        rw [c10, c11, iz_le (by omega)]; omega
    · have tl : 1 ≤ ct.length := by
        cases ct with
        | nil => exact absurd rfl t3
        | cons x l => simp
      have t21 := t2.1
      obtain ⟨vt, S1, w1, w2, w3⟩ := worked_iz hX (S := S) (fun k k0 k5 => by rw [e23]; exact hn k k0 k5) hN t1 (sl t2) b0 (by omega)
      have ne : ¬ o.2.2.1 0 = none := by rw [t0]; simp
      by_cases z : vt = 0
      · obtain ⟨r, S', a1, a2, a3⟩ := ih (i + 1) (o.2.2.1 2) S1 fu hl (by omega) (by omega) (by rw [w3.1]; exact h9) (fun r hr' => by rw [w3.2.2 r (by omega)]; exact hr r hr') ((w3.2.2 23 (by decide)).trans e23)
        refine ⟨r, S', ?_, ?_, w3.tr a3⟩
        · rw [x_gives_b5]
          exact iteFE (by simp) (bindE rfl (bindE go (iteFE ne (bindE rfl (bindE go (bindE t0 (bindE w1 (iteTE z (bindE rfl (bindE go a1))))))))))
        · rw [m_loss_b82]
          refine iteFE lt9 (chkE rfl (by omega) (chkE rfl (by omega) (iteFE ?_ (chkE rfl (by omega) (chkE rfl (by omega) ?_)))))
          · rw [c10, c11, iz_le (by omega)]; omega
          · rw [c10, c11]
            refine b2E w2 (iteTE z ?_)
            rw [nmE, np]; exact a2
      · obtain ⟨r, S', a1, a2, a3⟩ := ans S1 w3
        refine ⟨r, S', ?_, ?_, a3⟩
        · rw [x_gives_b5]
          exact iteFE (by simp) (bindE rfl (bindE go (iteFE ne (bindE rfl (bindE go (bindE t0 (bindE w1 (iteFE z (bindE rfl (bindE go (bindE g1 (bindE a1 rfl))))))))))))
        · rw [m_loss_b82]
          refine iteFE lt9 (chkE rfl (by omega) (chkE rfl (by omega) (iteFE ?_ (chkE rfl (by omega) (chkE rfl (by omega) ?_)))))
          · rw [c10, c11, iz_le (by omega)]; omega
          · rw [c10, c11]
            exact b2E w2 (iteFE z a2)
/-- only the facts have changed -/
def K49 (T T' : XS) : Prop := T'.1 = T.1 ∧ T'.2.2 = T.2.2 ∧ ∀ r, r ≠ 49 → T'.2.1 r = T.2.1 r
theorem K49.rf (T : XS) : K49 T T := ⟨rfl, rfl, fun _ _ => rfl⟩
theorem K49.tr {S S' S'' : XS} (h : K49 S S') (g : K49 S' S'') : K49 S S'' := ⟨g.1.trans h.1, g.2.1.trans h.2.1, fun r hr => (g.2.2 r hr).trans (h.2.2 r hr)⟩
theorem K49.set {S S' : XS} (h : K49 S S') (j : Nat) (v : Int32) : K49 S (xA S' 49 j v) := ⟨h.1, h.2.1, fun r hr => by
  rw [← h.2.2 r hr]; funext i; rw [xA21, if_neg hr]⟩
theorem K49.xs {X T T' : XS} (h : K49 T T') (g : xs X T) : xs X T' := ⟨h.2.1.trans g.1, fun k hk => by rw [h.1]; exact g.2.1 k hk, fun k hk => by
  rw [h.2.2 k (fun e => by rw [e] at hk; cases hk)]; exact g.2.2 k hk⟩
theorem clear_iz (N : Nat) : ∀ (n i : Nat) (T : XS), i ≤ 128 → 128 - i < n → ∃ T', f_clear_b2 N n T (iz i) = some T' ∧ K49 T T' := by
  intro n
  induction n with
  | zero => intro i T a b; omega
  | succ n ih =>
    intro i T a b
    rw [f_clear_b2]
    by_cases c : i = 128
    · subst c
      exact ⟨T, iteTE (by decide) rfl, K49.rf T⟩
    have ni : iz i + 1 = iz ((i + 1 : Nat) : Int) := by rw [show (1 : Int32) = iz 1 from rfl, iz_add]; rfl
    obtain ⟨T', g1, g2⟩ := ih (i + 1) (xA T 49 i 0) (by omega) (by omega)
    refine ⟨T', iteFE (by rw [show (128 : Int32) = iz 128 from rfl, iz_le (by omega)]; omega) (chkE rfl (by omega) ?_), ((K49.rf T).set _ _).tr g2⟩
    rw [nmE, nmE, ni, iz_clampN (by omega)]
    exact g1
def fx (T : XS) (a b c d e f : Int32) : XS := xA (xA (xA (xA (xA (xA T 49 118 a) 49 117 b) 49 109 c) 49 100 d) 49 112 e) 49 110 f
def fm (S : MS) (a b c d e f : Int32) : MS := sA (sA (sA (sA (sA (sA S 23 0 a) 23 1 b) 23 2 c) 23 3 d) 23 4 e) 23 5 f
theorem f_named (T : XS) (S : MS) (a b c d e f : Int32) : named (fx T a b c d e f) (fm S a b c d e f) := by
  intro k k0 k5
  have x : (fx T a b c d e f).2.1 49 118 = a ∧ (fx T a b c d e f).2.1 49 117 = b ∧ (fx T a b c d e f).2.1 49 109 = c ∧ (fx T a b c d e f).2.1 49 100 = d ∧ (fx T a b c d e f).2.1 49 112 = e ∧ (fx T a b c d e f).2.1 49 110 = f := by
    refine ⟨?_, ?_, ?_, ?_, ?_, ?_⟩ <;> simp [fx, xA21]
  have m : (fm S a b c d e f).2.1 23 0 = a ∧ (fm S a b c d e f).2.1 23 1 = b ∧ (fm S a b c d e f).2.1 23 2 = c ∧ (fm S a b c d e f).2.1 23 3 = d ∧ (fm S a b c d e f).2.1 23 4 = e ∧ (fm S a b c d e f).2.1 23 5 = f := by
    refine ⟨?_, ?_, ?_, ?_, ?_, ?_⟩ <;> simp [fm, sA21]
  obtain ⟨x0, x1, x2, x3, x4, x5⟩ := x
  obtain ⟨m0, m1, m2, m3, m4, m5⟩ := m
  rcases (show k = 0 ∨ k = 1 ∨ k = 2 ∨ k = 3 ∨ k = 4 ∨ k = 5 by omega) with z | z | z | z | z | z <;> subst z
  · exact x0.trans m0.symm
  · exact x1.trans m1.symm
  · exact x2.trans m2.symm
  · exact x3.trans m3.symm
  · exact x4.trans m4.symm
  · exact x5.trans m5.symm
/-- only stack and names have changed -/
def K23 (S S' : MS) : Prop := S'.1 = S.1 ∧ S'.2.2 = S.2.2 ∧ ∀ r, r ≠ 22 → r ≠ 23 → S'.2.1 r = S.2.1 r
theorem K23.rf (S : MS) : K23 S S := ⟨rfl, rfl, fun _ _ _ => rfl⟩
theorem K23.tr {S S' S'' : MS} (h : K23 S S') (g : K23 S' S'') : K23 S S'' := ⟨g.1.trans h.1, g.2.1.trans h.2.1, fun r hr hq => (g.2.2 r hr hq).trans (h.2.2 r hr hq)⟩
theorem K23.set {S S' : MS} (h : K23 S S') (j : Nat) (v : Int32) : K23 S (sA S' 23 j v) := ⟨h.1, h.2.1, fun r hr hq => by
  rw [← h.2.2 r hr hq]; funext i; rw [sA21, if_neg hq]⟩
theorem K22.k23 {S S' : MS} (h : K22 S S') : K23 S S' := ⟨h.1, h.2.1, fun r hr _ => h.2.2 r hr⟩
theorem K23.sm {S S' : MS} (h : K23 S S') : sm S S' := ⟨h.2.1, fun k _ => by rw [h.1], fun k hk => h.2.2 k (fun e => by rw [e] at hk; cases hk) (fun e => by rw [e] at hk; cases hk)⟩
theorem lostIn_iz {X T : XS} {M S : MS} (h : R X M) (hx : xs X T) (hm : sm M S) {N : Nat} (hN : 300 ≤ N) {L : Nat} (hL : T.1 16 = iz L ∧ S.1 44 = iz L) {p : Nat} {w u : Int} (hp : (p : Int) < mi M 0) (hu : 0 ≤ u ∧ u ≤ 100000) : ∃ r T' S', x_lostIn N T (iz p) (iz w) (iz u) = some (r, T') ∧ m_loss N S (iz p) (iz u) (iz w) = some (r, S') ∧ K49 T T' ∧ K23 S S' := by
  have n9 := h.1.1.2
  obtain ⟨a, o, p1, p2, p3, -, -, p4, p5, -⟩ := h.1.2.2.2.1 p hp
  obtain ⟨-, -, ⟨w0, w9⟩, -⟩ := h.1.2.2.2.2.1 p hp
  have oT : T.2.2.2 a = some o := by rw [hx.1]; exact p2
  have c3 : S.2.1 3 p = iz (ma M 3 p) := by rw [hm.2.2 3 rfl, ma_eq]
  have c4 : S.2.1 4 p = iz (ma M 4 p) := by rw [hm.2.2 4 rfl, ma_eq]
  have s8 : S.1 8 = M.1 8 := hm.2.1 8 rfl
  unfold x_lostIn m_loss
  have e11 : T.2.2.1 11 0 = X.2.2.1 11 0 := by rw [hx.1]
  rcases h.2.2.2.1 with ⟨m8, x11⟩ | ⟨m8, ⟨l1, l60⟩, x11, hl⟩
  · have pu : 0 ≤ ma M 3 p * u ∧ ma M 3 p * u ≤ 9 * 100000 := ⟨Int.mul_nonneg w0 hu.1, Int.mul_le_mul w9 hu.2 hu.1 (by omega)⟩
    have pd : 0 ≤ ma M 3 p * u / 10 ∧ ma M 3 p * u / 10 ≤ 9 * 100000 := by omega
    refine ⟨iz (min 99 (ma M 3 p * u / 10)), T, S, chkE rfl (by omega) (bindE (by rw [iz_clampN (by omega), hx.1]; exact p1) (bindE (getO_eq oT p3) ?_)), iteTE (by rw [s8]; exact m8) (chkE rfl (by omega) ?_), K49.rf T, K23.rf S⟩
    · rw [nmE, p4, iz_mul, show (10 : Int32) = iz 10 from rfl, iz_div (by omega)]
      refine iteTE (by rw [e11]; exact x11) ?_
      rw [show (99 : Int32) = iz 99 from rfl, show (0 : Int32) = iz 0 from rfl, jmin_iz (by omega), jmax_iz (by omega)]
      rw [show max 0 (min 99 (ma M 3 p * u / 10)) = min 99 (ma M 3 p * u / 10) by omega]
    · rw [iz_clampN (by omega), c3, iz_mul, show (10 : Int32) = iz 10 from rfl, iz_div (by omega), show (99 : Int32) = iz 99 from rfl, jmin_iz (by omega)]
  · obtain ⟨T1, t1, t2⟩ := clear_iz N N 0 T (by omega) (by omega)
    have t1' : f_clear N T = some T1 := t1
    have o1 : T1.2.2.2 a = some o := by rw [t2.2.1]; exact oT
    have kT : K49 T (fx T1 (iz (ma M 3 p)) (iz u) (iz w) (iz (ma M 4 p)) (iz p) (iz L)) := t2.tr ((((((((K49.rf T1).set _ _).set _ _).set _ _).set _ _).set _ _).set _ _))
    have kS : K23 S (fm S (iz (ma M 3 p)) (iz u) (iz w) (iz (ma M 4 p)) (iz p) (iz L)) := (((((((K23.rf S).set _ _).set _ _).set _ _).set _ _).set _ _).set _ _)
    have e9 : (fm S (iz (ma M 3 p)) (iz u) (iz w) (iz (ma M 4 p)) (iz p) (iz L)).1 9 = iz (((mi M 9).toNat : Nat) : Int) := by
      rw [kS.1, hm.2.1 9 rfl, mi_eq]
      congr 1
      omega
    obtain ⟨r, S', g1, g2, g3⟩ := gives_l (X := X) (M := M) (T := fx T1 (iz (ma M 3 p)) (iz u) (iz w) (iz (ma M 4 p)) (iz p) (iz L)) (S0 := fm S (iz (ma M 3 p)) (iz u) (iz w) (iz (ma M 4 p)) (iz p) (iz L)) (by rw [kT.2.1, hx.1]) (f_named _ _ _ _ _ _ _ _) hN (L := (mi M 9).toNat) (by omega) (mi M 9).toNat 0 (X.2.2.1 11 0) (fm S (iz (ma M 3 p)) (iz u) (iz w) (iz (ma M 4 p)) (iz p) (iz L)) N hl (by omega) (by omega) e9 (fun r hr => by
      rw [kS.2.2 r (by omega) (by omega)]
      rcases hr with z | z | z | z <;> subst z
      · exact hm.2.2 10 rfl
      · exact hm.2.2 11 rfl
      · exact hm.2.2 12 rfl
      · exact hm.2.2 13 rfl) rfl
    have gx : x_gives N (fx T1 (iz (ma M 3 p)) (iz u) (iz w) (iz (ma M 4 p)) (iz p) (iz L)) = some r := by
      unfold x_gives
      rw [kT.2.1, e11]
      exact g1
    refine ⟨jmax 0 (jmin 99 r), _, S', chkE rfl (by omega) (bindE (by rw [iz_clampN (by omega), hx.1]; exact p1) (bindE (getO_eq oT p3) ?_)), iteFE (by rw [s8, m8]; decide) (chkE rfl (by omega) ?_), kT, kS.tr g3.k23⟩
    · rw [nmE]
      refine iteFE (by rw [e11]; exact x11) (bindE t1' (bindE (getO_eq o1 p3) ?_))
      rw [nmE, nmE, nmE]
      refine bindE (getO_eq (by exact o1) p3) ?_
      rw [nmE, nmE, nmE]
      have e16 : T1.1 16 = iz L := by rw [t2.1]; exact hL.1
      have ex : (xA (xA (xA (xA (xA T1 49 118 (o.2.1 2)) 49 117 (iz u)) 49 109 (iz w)) 49 100 (o.2.1 3)) 49 112 (iz p)).1 16 = iz L := e16
      rw [ex, p4, p5]
      exact bindE gx rfl
    · rw [nmE, nmE, nmE]
      refine chkE rfl (by omega) ?_
      rw [nmE, nmE, nmE]
      have e4 : (sA (sA (sA S 23 0 (S.2.1 3 (iz p).toNatClampNeg)) 23 1 (iz u)) 23 2 (iz w)).2.1 4 (iz p).toNatClampNeg = iz (ma M 4 p) := by
        rw [sA21, if_neg (by decide), sA21, if_neg (by decide), sA21, if_neg (by decide), iz_clampN (by omega), c4]
      rw [e4, iz_clampN (by omega), c3]
      have e44 : (sA (sA (sA (sA (sA S 23 0 (iz (ma M 3 p))) 23 1 (iz u)) 23 2 (iz w)) 23 3 (iz (ma M 4 p))) 23 4 (iz p)).1 44 = iz L := hL.2
      rw [e44]
      exact g2
