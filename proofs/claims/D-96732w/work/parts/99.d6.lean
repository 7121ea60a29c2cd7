/-! PLAIN LAW: two, the reference's part, both. Own text. -/
set_option maxRecDepth 100000
theorem FW.m {X T : XS} {M S : MS} {D : Nat} {q t : Nat → Int} (h : FW X M T S D q t) {S' : MS} (hm : sm M S') (e46 : S'.1 46 = S.1 46) (e48 : S'.2.1 48 = S.2.1 48) (e47 : S'.2.1 47 = S.2.1 47) : FW X M T S' D q t := by
  obtain ⟨h1, h2, h3, h4, h5, h6, h7⟩ := h
  exact ⟨h1, hm, h3, h4, e46.trans h5, fun j hj => by rw [e48, e47]; exact h6 j hj, h7⟩
theorem FW.m51 {X T : XS} {M S : MS} {D : Nat} {q t : Nat → Int} (h : FW X M T S D q t) (j : Nat) (v : Int32) : FW X M T (sA S 51 j v) D q t :=
  h.m (h.2.1.setA rfl _ _) rfl (by funext u; rw [sA21, if_neg (by decide)]) (by funext u; rw [sA21, if_neg (by decide)])
def sumTo (f : Nat → Int) : Nat → Int
  | 0 => 0
  | n + 1 => sumTo f n + f n
theorem sumTo_up {f g : Nat → Int} {j : Nat} (h : ∀ w, g w = if w = j then f j + 1 else f w) : ∀ n, sumTo g n = sumTo f n + if j < n then 1 else 0 := by
  intro n
  induction n with
  | zero => rfl
  | succ n ih =>
    rw [sumTo, sumTo, ih, h]
    by_cases c : n = j
    · rw [if_pos c, if_neg (by omega), if_pos (by omega), c]; omega
    · rw [if_neg c]
      by_cases d : j < n
      · rw [if_pos d, if_pos (by omega)]; omega
      · rw [if_neg d, if_neg (by omega)]; omega
theorem sumTo_0 {f : Nat → Int} : ∀ n, (∀ j, j < n → f j = 0) → sumTo f n = 0 := by
  intro n
  induction n with
  | zero => intro _; rfl
  | succ n ih => intro h; rw [sumTo, ih (fun j hj => h j (by omega)), h n (by omega)]; rfl
theorem sumTo_R {f : Nat → Int} {b : Int} : ∀ n, (∀ j, j < n → 0 ≤ f j ∧ f j ≤ b) → 0 ≤ sumTo f n ∧ sumTo f n ≤ b * n := by
  intro n
  induction n with
  | zero => intro _; unfold sumTo; omega
  | succ n ih =>
    intro h
    have := ih (fun j hj => h j (by omega))
    have := h n (by omega)
    rw [sumTo, show b * ((n + 1 : Nat) : Int) = b * n + b by rw [Int.natCast_add, Int.mul_add]; omega]
    omega
/-- the marks -/
def MKP (S : MS) (P : Int → Prop) (K : Nat) (b : Int) : Prop := (∀ w, w < 1000 → 0 ≤ ma S 51 w ∧ ma S 51 w ≤ b) ∧ (∀ w : Nat, w < 1000 → (ma S 51 w ≠ 0 ↔ P w)) ∧ sumTo (ma S 51) 1000 = K
theorem MKP.mark {S : MS} {P P' : Int → Prop} {K : Nat} {b : Int} (h : MKP S P K b) (hb : 0 ≤ b ∧ b ≤ 100000) {w : Nat} (hw : w < 1000) (hP : ∀ u, P' u ↔ (P u ∨ u = w)) : MKP (sA S 51 w (iz (ma S 51 w + 1))) P' (K + 1) (b + 1) := by
  obtain ⟨h1, h2, h3⟩ := h
  have e : ∀ u, ma (sA S 51 w (iz (ma S 51 w + 1))) 51 u = if u = w then ma S 51 w + 1 else ma S 51 u := fun u => by
    have := h1 w hw
    rw [ma_sA _ _ _ (by omega), if_pos rfl]
  refine ⟨fun u hu => ?_, fun u hu => ?_, ?_⟩
  · rw [e]
    have := h1 w hw
    have := h1 u hu
    split <;> omega
  · rw [e, hP]
    have := h1 w hw
    by_cases c : u = w
    · rw [if_pos c]
      exact ⟨fun _ => Or.inr (by omega), fun _ => by omega⟩
    · rw [if_neg c, h2 u hu]
      exact ⟨Or.inl, fun z => z.elim id (fun y => absurd (show u = w by omega) c)⟩
  · rw [sumTo_up e, h3, if_pos hw]; rfl
theorem MKP.cg {S : MS} {P P' : Int → Prop} {K K' : Nat} {b b' : Int} (h : MKP S P K b) (hP : ∀ u, P' u ↔ P u) (hK : K' = K) (hb : b ≤ b') : MKP S P' K' b' := by
  obtain ⟨h1, h2, h3⟩ := h
  exact ⟨fun w hw => by have := h1 w hw; omega, fun w hw => by rw [hP]; exact h2 w hw, by rw [hK]; exact h3⟩
theorem marks_l {X : XS} {M : MS} {T : XS} {D : Nat} {q t : Nat → Int} (N : Nat) {p o : Int} (hp : 0 ≤ p ∧ p < 9) (ho : 0 ≤ o ∧ o ≤ 99) : ∀ (n i : Nat) (S : MS), i ≤ D → D - i < n → FW X M T S D q t → MKP S (PdD i q t p o) (KK q t p o i) (2 * i) → ∃ S', m_twoOf_b24 N (iz p) (iz o) n S (iz i) = m_twoOf_b118 N N S' 0 (-1) 0 0 ∧ FW X M T S' D q t ∧ MKP S' (PdD D q t p o) (KK q t p o D) (2 * D) := by
  intro n
  induction n with
  | zero => intro i S a b; omega
  | succ n ih =>
    intro i S a b hf hk
    obtain ⟨h1, h2, h3, h4, h5, h6, h7⟩ := id hf
    rw [m_twoOf_b24, h5]
    by_cases c : D ≤ i
    · obtain rfl : i = D := by omega
      exact ⟨S, iteTE (Int32.le_refl _) rfl, hf, hk⟩
    have cc : ¬ iz D ≤ iz i := by rw [iz_le (by omega)]; omega
    have ni : iz i + 1 = iz ((i + 1 : Nat) : Int) := by rw [show (1 : Int32) = iz 1 from rfl, iz_add]; rfl
    obtain ⟨-, ⟨a1, a2⟩, a3, a4⟩ := h6 i (by omega)
    have n9 := mi_R M 0
    have eq1 : (iz (q i) = iz p) ↔ q i = p := iz_eq (by omega)
    have pst : ∀ u, PdD (i + 1) q t p o u ↔ (PdD i q t p o u ∨ (q i = p ∧ ((t i ≤ 999 ∧ o ≤ t i ∧ t i = u) ∨ (t i + o ≤ 999 ∧ t i + o = u)))) := fun u => by
      constructor
      · rintro ⟨j, j1, j2, j3⟩
        by_cases z : j = i
        · subst z; exact Or.inr ⟨j2, j3⟩
        · exact Or.inl ⟨j, by omega, j2, j3⟩
      · rintro (⟨j, j1, j2⟩ | ⟨j2, j3⟩)
        · exact ⟨j, by omega, j2⟩
        · exact ⟨i, by omega, j2, j3⟩
    by_cases d : q i = p
    · obtain ⟨tn, te⟩ : ∃ tn : Nat, t i = tn := ⟨(t i).toNat, by omega⟩
      obtain ⟨on, oe⟩ : ∃ on : Nat, o = on := ⟨o.toNat, by omega⟩
      -- the second mark
      have s2 : ∀ (S1 : MS) (P1 : Int → Prop) (K1 : Nat) (b1 : Int), FW X M T S1 D q t → MKP S1 P1 K1 b1 → (0 ≤ b1 ∧ b1 ≤ 2 * i + 1) → (∀ u, PdD (i + 1) q t p o u ↔ (P1 u ∨ (t i + o ≤ 999 ∧ t i + o = u))) → KK q t p o (i + 1) = K1 + (if q i = p ∧ t i + o ≤ 999 then 1 else 0) → ∃ S', m_twoOf_b78 N (iz p) (iz o) (iz i) (iz (t i)) (fun t y3 => m_twoOf_b24 N (iz p) (iz o) n t y3) S1 = m_twoOf_b118 N N S' 0 (-1) 0 0 ∧ FW X M T S' D q t ∧ MKP S' (PdD D q t p o) (KK q t p o D) (2 * D) := by
        intro S1 P1 K1 b1 f1 k1 hb hP hK
        unfold m_twoOf_b78
        have le2 : (1000 ≤ iz (t i) + iz o) ↔ 1000 ≤ t i + o := by rw [iz_add, show (1000 : Int32) = iz 1000 from rfl, iz_le (by omega)]
        have ea : iz (t i) + iz o = iz ((tn + on : Nat) : Int) := by rw [iz_add]; congr 1; omega
        by_cases z : 1000 ≤ t i + o
        · obtain ⟨S', g1, g2⟩ := ih (i + 1) S1 (by omega) (by omega) f1 (k1.cg (fun u => by
            rw [hP]
            exact ⟨fun y => y.elim id (fun w => by have := w.1; omega), Or.inl⟩) (by rw [hK, if_neg (fun y => by have := y.2; omega), Nat.add_zero]) (by omega))
          refine ⟨S', iteTE (le2.mpr z) ?_, g2⟩
          rw [nmE, ni]; exact g1
        · have r1 := k1.1 (tn + on) (by omega)
          obtain ⟨S', g1, g2⟩ := ih (i + 1) (sA S1 51 (tn + on) (iz (ma S1 51 (tn + on) + 1))) (by omega) (by omega) (f1.m51 _ _) ((k1.mark (by omega) (w := tn + on) (by omega) (P' := PdD (i + 1) q t p o) (fun u => by
            rw [hP]
            constructor
            · rintro (y | ⟨y1, y2⟩)
              · exact Or.inl y
              · exact Or.inr (by omega)
            · rintro (y | y)
              · exact Or.inl y
              · exact Or.inr ⟨by omega, by omega⟩)).cg (fun u => Iff.rfl) (by rw [hK, if_pos ⟨d, by omega⟩]) (by omega))
          refine ⟨S', iteFE (fun y => z (le2.mp y)) ?_, g2⟩
          rw [ea]
          refine chkE rfl (by omega) (chkE rfl (by omega) ?_)
          rw [nmE, nmE, ni, iz_clampN (by omega), ma_eq S1 51, show (1 : Int32) = iz 1 from rfl, iz_add]
          exact g1
      have le1 : (iz (t i) < iz o) ↔ t i < o := iz_lt (by omega)
      have le3 : (1000 ≤ iz (t i)) ↔ 1000 ≤ t i := by rw [show (1000 : Int32) = iz 1000 from rfl, iz_le (by omega)]
      have skip : ∀ _ : Unit, ¬ (t i ≤ 999 ∧ o ≤ t i) → ∃ S', m_twoOf_b78 N (iz p) (iz o) (iz i) (iz (t i)) (fun t y3 => m_twoOf_b24 N (iz p) (iz o) n t y3) S = m_twoOf_b118 N N S' 0 (-1) 0 0 ∧ FW X M T S' D q t ∧ MKP S' (PdD D q t p o) (KK q t p o D) (2 * D) := fun _ z => by
        refine s2 S (PdD i q t p o) (KK q t p o i) (2 * i) hf hk (by omega) (fun u => ?_) ?_
        · rw [pst]
          constructor
          · rintro (y | ⟨-, y | y⟩)
            · exact Or.inl y
            · exact absurd ⟨y.1, y.2.1⟩ z
            · exact Or.inr y
          · rintro (y | y)
            · exact Or.inl y
            · exact Or.inr ⟨d, Or.inr y⟩
        · rw [KK, if_neg (fun y => z y.2)]; rfl
      have fst : ∀ r : Option (Int32 × MS), (if iz (t i) < iz o then m_twoOf_b78 N (iz p) (iz o) (iz i) (iz (t i)) (fun t y3 => m_twoOf_b24 N (iz p) (iz o) n t y3) S else (if 1000 ≤ iz (t i) then m_twoOf_b78 N (iz p) (iz o) (iz i) (iz (t i)) (fun t y3 => m_twoOf_b24 N (iz p) (iz o) n t y3) S else chk 1000 (iz (t i)) (chk 1000 (iz (t i)) (nm (sA S 51 (iz (t i)).toNatClampNeg ((S.2.1 51 (iz (t i)).toNatClampNeg) + 1)) fun T5 => m_twoOf_b78 N (iz p) (iz o) (iz i) (iz (t i)) (fun t y3 => m_twoOf_b24 N (iz p) (iz o) n t y3) T5)))) = r → (if iz D ≤ iz i then m_twoOf_b118 N N S 0 (-1) 0 0 else chk 4000 (iz i) (if (S.2.1 48 (iz i).toNatClampNeg) = iz p then chk 4000 (iz i) (nm (S.2.1 47 (iz i).toNatClampNeg) fun x3 => (if x3 < iz o then m_twoOf_b78 N (iz p) (iz o) (iz i) x3 (fun t y3 => m_twoOf_b24 N (iz p) (iz o) n t y3) S else (if 1000 ≤ x3 then m_twoOf_b78 N (iz p) (iz o) (iz i) x3 (fun t y3 => m_twoOf_b24 N (iz p) (iz o) n t y3) S else chk 1000 x3 (chk 1000 x3 (nm (sA S 51 x3.toNatClampNeg ((S.2.1 51 x3.toNatClampNeg) + 1)) fun T5 => m_twoOf_b78 N (iz p) (iz o) (iz i) x3 (fun t y3 => m_twoOf_b24 N (iz p) (iz o) n t y3) T5))))) else nm (iz i + 1) fun x7 => m_twoOf_b24 N (iz p) (iz o) n S x7)) = r := fun r hr => by
        refine iteFE cc (chkE rfl (by omega) (iteTE ?_ (chkE rfl (by omega) ?_)))
        · rw [iz_clampN (by omega), a1]; exact eq1.mpr d
        · rw [nmE, iz_clampN (by omega), a2]; exact hr
      by_cases z1 : t i < o
      · obtain ⟨S', g1, g2⟩ := skip () (fun y => by omega)
        exact ⟨S', fst _ (iteTE (le1.mpr z1) g1), g2⟩
      by_cases z2 : 1000 ≤ t i
      · obtain ⟨S', g1, g2⟩ := skip () (fun y => by omega)
        exact ⟨S', fst _ (iteFE (fun y => z1 (le1.mp y)) (iteTE (le3.mpr z2) g1)), g2⟩
      have r1 := hk.1 tn (by omega)
      obtain ⟨S', g1, g2⟩ := s2 (sA S 51 tn (iz (ma S 51 tn + 1))) (fun u => PdD i q t p o u ∨ u = tn) (KK q t p o i + 1) (2 * i + 1) (hf.m51 _ _) (hk.mark (by omega) (w := tn) (by omega) (fun u => Iff.rfl)) (by omega) (fun u => by
        rw [pst]
        constructor
        · rintro (y | ⟨-, y | y⟩)
          · exact Or.inl (Or.inl y)
          · exact Or.inl (Or.inr (by omega))
          · exact Or.inr y
        · rintro ((y | y) | y)
          · exact Or.inl y
          · exact Or.inr ⟨d, Or.inl ⟨by omega, by omega, by omega⟩⟩
          · exact Or.inr ⟨d, Or.inr y⟩) (by
        rw [KK, if_pos ⟨d, by omega, by omega⟩])
      refine ⟨S', fst _ (iteFE (fun y => z1 (le1.mp y)) (iteFE (fun y => z2 (le3.mp y)) (chkE rfl (by omega) (chkE rfl (by omega) ?_)))), g2⟩
      rw [nmE, show (iz (t i)).toNatClampNeg = tn by rw [te, iz_clampN (by omega)], ma_eq S 51, show (1 : Int32) = iz 1 from rfl, iz_add]
      exact g1
    · obtain ⟨S', g1, g2⟩ := ih (i + 1) S (by omega) (by omega) hf (hk.cg (fun u => by
        rw [pst]
        exact ⟨fun y => y.elim id (fun w => absurd w.1 d), Or.inl⟩) (by rw [KK, if_neg (fun y => d y.1), if_neg (fun y => d y.1)]; rfl) (by omega))
      refine ⟨S', iteFE cc (chkE rfl (by omega) (iteFE (by rw [iz_clampN (by omega), a1]; exact fun y => d (eq1.mp y)) ?_)), g2⟩
      rw [nmE, ni]; exact g1
def Pw (S : MS) (w : Nat) (x : Int) : Prop := ∃ u : Nat, u < w ∧ ma S 51 u ≠ 0 ∧ x = u
theorem Pw.st {S : MS} {w : Nat} (x : Int) : Pw S (w + 1) x ↔ (Pw S w x ∨ (ma S 51 w ≠ 0 ∧ x = w)) := by
  constructor
  · rintro ⟨u, u1, u2, u3⟩
    by_cases c : u = w
    · subst c; exact Or.inr ⟨u2, u3⟩
    · exact Or.inl ⟨u, by omega, u2, u3⟩
  · rintro (⟨u, u1, u2⟩ | ⟨u2, u3⟩)
    · exact ⟨u, by omega, u2⟩
    · exact ⟨w, by omega, u2, u3⟩
theorem scan_l (N : Nat) {S : MS} {P : Int → Prop} {K : Nat} {b : Int} (hk : MKP S P K b) (hb : 0 ≤ b ∧ b ≤ 100000) (hP : ∀ u, P u → 0 ≤ u ∧ u ≤ 999) : ∀ (n w : Nat) (al ah mo : Int), w ≤ 1000 → 1000 - w < n → al = sumTo (ma S 51) w → (0 ≤ mo ∧ mo ≤ 1000) → Sg (Pw S w) mo → ((ah = -1 ∧ ∀ x, ¬ Pw S w x) ∨ (0 ≤ ah ∧ ah ≤ 999 ∧ Pw S w ah ∧ ∀ x, Pw S w x → x ≤ ah)) → ∃ r, m_twoOf_b118 N n S (iz al) (iz ah) (iz mo) (iz w) = some (iz r, S) ∧ ((K ≤ 1 ∧ r = -2) ∨ (2 ≤ K ∧ 0 ≤ r ∧ r ≤ 2000 ∧ Sg P r)) := by
  intro n
  induction n with
  | zero => intro w al ah mo a b; omega
  | succ n ih =>
    intro w al ah mo h1 h2 ha hm hs hh
    have al0 := sumTo_R (f := ma S 51) (b := b) w (fun j hj => hk.1 j (by omega))
    have bw : b * w ≤ 100000 * 1000 := Int.mul_le_mul hb.2 (by omega) (by omega) (by omega)
    rw [m_twoOf_b118]
    by_cases c : w = 1000
    · subst c
      have le1 : (1000 : Int32) ≤ iz ((1000 : Nat) : Int) := by decide
      have e1 : al = K := by rw [ha]; exact hk.2.2
      have le2 : ((2 : Int32) ≤ iz al) ↔ 2 ≤ al := by rw [show (2 : Int32) = iz 2 from rfl, iz_le (by omega)]
      by_cases d : 2 ≤ al
      · refine ⟨mo, iteTE le1 (iteTE (le2.mpr d) rfl), Or.inr ⟨by omega, by omega, by omega, hs.cg (fun u => ?_)⟩⟩
        constructor
        · rintro ⟨u', u1, u2, u3⟩
          rw [u3]
          exact (hk.2.1 u' u1).mp u2
        · intro z
          have := hP u z
          refine ⟨u.toNat, by omega, (hk.2.1 u.toNat (by omega)).mpr ?_, by omega⟩
          rw [show ((u.toNat : Nat) : Int) = u by omega]
          exact z
      · exact ⟨-2, iteTE le1 (iteFE (fun z => d (le2.mp z)) rfl), Or.inl ⟨by omega, rfl⟩⟩
    have cc : ¬ (1000 : Int32) ≤ iz w := by rw [show (1000 : Int32) = iz 1000 from rfl, iz_le (by omega)]; omega
    have nw : iz w + 1 = iz ((w + 1 : Nat) : Int) := by rw [show (1 : Int32) = iz 1 from rfl, iz_add]; rfl
    have r0 := hk.1 w (by omega)
    have z0 : (iz (ma S 51 w) = 0) ↔ ma S 51 w = 0 := by rw [show (0 : Int32) = iz 0 from rfl, iz_eq (by omega)]
    have a' : al + ma S 51 w = sumTo (ma S 51) (w + 1) := by rw [sumTo, ha]
    by_cases d : ma S 51 w = 0
    · have same : ∀ x, Pw S (w + 1) x ↔ Pw S w x := fun x => by
        rw [Pw.st]
        exact ⟨fun z => z.elim id (fun y => absurd d y.1), Or.inl⟩
      obtain ⟨r, g1, g2⟩ := ih (w + 1) al ah mo (by omega) (by omega) (by rw [← a', d]; omega) hm (hs.cg (fun x => (same x).symm)) (by
        rcases hh with ⟨e1, e2⟩ | ⟨e1, e2, e3, e4⟩
        · exact Or.inl ⟨e1, fun x hx => e2 x ((same x).mp hx)⟩
        · exact Or.inr ⟨e1, e2, (same ah).mpr e3, fun x hx => e4 x ((same x).mp hx)⟩)
      refine ⟨r, iteFE cc (chkE rfl (by omega) (iteTE ?_ ?_)), g2⟩
      · rw [iz_clampN (by omega), ma_eq S 51]; exact z0.mpr d
      · rw [nmE, nw]; exact g1
    · have pw : Pw S (w + 1) w := (Pw.st _).mpr (Or.inr ⟨d, rfl⟩)
      have pst : ∀ x, Pw S (w + 1) x ↔ (Pw S w x ∨ x = w) := fun x => by
        rw [Pw.st]
        exact ⟨fun z => z.elim Or.inl (fun y => Or.inr y.2), fun z => z.elim Or.inl (fun y => Or.inr ⟨d, y⟩)⟩
      have up : ∀ x, Pw S (w + 1) x → x ≤ w := fun x ⟨u, u1, u2, u3⟩ => by omega
      have fst : ∀ r : Option (Int32 × MS), (if iz ah < 0 then nm (iz w + 1) fun x4 => m_twoOf_b118 N n S (iz (al + ma S 51 w)) (iz w) (iz mo) x4 else nm (jmax (iz mo) (iz w - iz ah)) fun x5 => nm (iz w + 1) fun x6 => m_twoOf_b118 N n S (iz (al + ma S 51 w)) (iz w) x5 x6) = r → (if (1000 : Int32) ≤ iz w then (if (2 : Int32) ≤ iz al then some (iz mo, S) else some ((-2), S)) else chk 1000 (iz w) (if (S.2.1 51 (iz w).toNatClampNeg) = 0 then nm (iz w + 1) fun x7 => m_twoOf_b118 N n S (iz al) (iz ah) (iz mo) x7 else chk 1000 (iz w) (nm (iz al + (S.2.1 51 (iz w).toNatClampNeg)) fun x3 => (if iz ah < 0 then nm (iz w + 1) fun x4 => m_twoOf_b118 N n S x3 (iz w) (iz mo) x4 else nm (jmax (iz mo) (iz w - iz ah)) fun x5 => nm (iz w + 1) fun x6 => m_twoOf_b118 N n S x3 (iz w) x5 x6)))) = r := fun r hr => by
        refine iteFE cc (chkE rfl (by omega) (iteFE ?_ (chkE rfl (by omega) ?_)))
        · rw [iz_clampN (by omega), ma_eq S 51]; exact fun z => d (z0.mp z)
        · rw [nmE, iz_clampN (by omega), ma_eq S 51, iz_add]; exact hr
      rcases hh with ⟨e1, e2⟩ | ⟨e1, e2, e3, e4⟩
      · subst e1
        obtain ⟨r, g1, g2⟩ := ih (w + 1) (al + ma S 51 w) w mo (by omega) (by omega) a' hm ⟨fun x x' cx => by
          have := (pst x).mp cx.1
          have := (pst x').mp cx.2.1
          have c3 := cx.2.2.1
          rcases (pst x).mp cx.1 with z | z
          · exact absurd z (e2 x)
          · rcases (pst x').mp cx.2.1 with z' | z'
            · exact absurd z' (e2 x')
            · omega, Or.inl (by
          rcases hs.2 with z | ⟨x, x', cx, -⟩
          · exact z
          · exact absurd cx.1 (e2 x))⟩ (Or.inr ⟨by omega, by omega, pw, up⟩)
        refine ⟨r, fst _ (iteTE (by decide) ?_), g2⟩
        rw [nmE, nw]; exact g1
      · have ahw : ah < w := by
          obtain ⟨u, u1, u2, u3⟩ := e3
          omega
        obtain ⟨r, g1, g2⟩ := ih (w + 1) (al + ma S 51 w) w (max mo (w - ah)) (by omega) (by omega) a' (by omega) (hs.add e3 e4 (by omega) pst) (Or.inr ⟨by omega, by omega, pw, up⟩)
        refine ⟨r, fst _ (iteFE (by rw [show (0 : Int32) = iz 0 from rfl, iz_lt (by omega)]; omega) ?_), g2⟩
        rw [nmE, nmE, nw, iz_sub, jmax_iz (by omega)]; exact g1
theorem clear_l {X : XS} {M : MS} {T : XS} {D : Nat} {q t : Nat → Int} (N : Nat) (p o : Int32) : ∀ (n i : Nat) (S : MS), i ≤ 1000 → 1000 - i < n → FW X M T S D q t → (∀ j, j < i → ma S 51 j = 0) → ∃ S', m_twoOf_b2 N p o n S (iz i) = m_twoOf_b24 N p o N S' 0 ∧ FW X M T S' D q t ∧ ∀ j, j < 1000 → ma S' 51 j = 0 := by
  intro n
  induction n with
  | zero => intro i S a b; omega
  | succ n ih =>
    intro i S a b hf hz
    rw [m_twoOf_b2]
    by_cases c : i = 1000
    · subst c
      exact ⟨S, iteTE (by decide) rfl, hf, hz⟩
    have ni : iz i + 1 = iz ((i + 1 : Nat) : Int) := by rw [show (1 : Int32) = iz 1 from rfl, iz_add]; rfl
    obtain ⟨S', g1, g2⟩ := ih (i + 1) (sA S 51 i (iz 0)) (by omega) (by omega) (hf.m51 _ _) (fun j hj => by
      rw [ma_sA _ _ _ (by omega), if_pos rfl]
      by_cases d : j = i
      · rw [if_pos d]
      · rw [if_neg d]; exact hz j (by omega))
    refine ⟨S', iteFE (by rw [show (1000 : Int32) = iz 1000 from rfl, iz_le (by omega)]; omega) (chkE rfl (by omega) ?_), g2⟩
    rw [nmE, nmE, ni, iz_clampN (by omega)]
    exact g1
theorem gap2_m {X T : XS} {M S : MS} {D : Nat} {q t : Nat → Int} (hf : FW X M T S D q t) {N : Nat} (hN : 10000 ≤ N) {p o : Int} (hp : 0 ≤ p ∧ p < 9) (ho : 0 ≤ o ∧ o ≤ 99) : ∃ r S', m_twoOf N S (iz p) (iz o) = some (iz r, S') ∧ FW X M T S' D q t ∧ G2 D q t p o r := by
  have D4 := hf.2.2.1
  obtain ⟨S1, a1, a2, a3⟩ := clear_l N (iz p) (iz o) N 0 S (by omega) (by omega) hf (fun j hj => absurd hj (by omega))
  obtain ⟨S2, b1, b2, b3⟩ := marks_l N hp ho N 0 S1 (by omega) (by omega) a2 ⟨fun w hw => by have := a3 w hw; omega, fun w hw => ⟨fun z => absurd (a3 w hw) z, fun ⟨j, j1, _⟩ => absurd j1 (by omega)⟩, sumTo_0 1000 a3⟩
  obtain ⟨r, c1, c2⟩ := scan_l N b3 (by omega) (fun u ⟨j, j1, j2, j3⟩ => by
    have := (b2.2.2.2.2.2.1 j j1).2.2.2
    omega) N 0 0 (-1) 0 (by omega) (by omega) rfl (by omega) ⟨fun w w' c => by
      obtain ⟨u, u1, _⟩ := c.1
      omega, Or.inl (Int.le_refl _)⟩ (Or.inl ⟨rfl, fun x ⟨u, u1, _⟩ => by omega⟩)
  refine ⟨r, S2, ?_, b2, c2⟩
  unfold m_twoOf
  exact a1.trans (b1.trans c1)
theorem gap2_iz {X T : XS} {M S : MS} {D : Nat} {q t : Nat → Int} (hf : FW X M T S D q t) {N : Nat} (hN : 10000 ≤ N) {p o : Int} (hp : 0 ≤ p ∧ p < 9) (ho : 0 ≤ o ∧ o ≤ 99) : ∃ r T' S', x_gapOfTwo N T (iz p) (iz o) = some (iz r, T') ∧ m_twoOf N S (iz p) (iz o) = some (iz r, S') ∧ FW X M T' S' D q t ∧ -2 ≤ r ∧ r ≤ 2000 := by
  obtain ⟨r, T', a1, a2, a3⟩ := gap2_x hf hN hp ho
  obtain ⟨r', S', b1, b2, b3⟩ := gap2_m a2 hN hp ho
  obtain rfl := a3.uniq b3
  refine ⟨r, T', S', a1, b1, b2, ?_⟩
  rcases a3 with ⟨-, e⟩ | ⟨-, e, e2, -⟩ <;> omega
theorem most_l {X : XS} {M : MS} {D : Nat} {q t : Nat → Int} (h : R X M) {N : Nat} (hN : 10000 ≤ N) {o : Int} (ho : 0 ≤ o ∧ o ≤ 99) (kx : XS → Int32 → Int32 → Int32 → Option (Int32 × XS)) (km : MS → Int32 → Int32 → Int32 → Option (Int32 × MS)) (b1 l1 b2' l2 : Int32) : ∀ (n p : Nat) (T : XS) (S : MS) (mo : Int), (p : Int) ≤ mi M 0 → mi M 0 - p < n → FW X M T S D q t → (0 ≤ mo ∧ mo ≤ 2000) → ∃ T' S' mo', x_bestLater_b19 N b1 l1 (iz o) kx n T (iz mo) (iz p) = (if b1 < 0 then kx T' (iz o) (iz mo') (iz (o + 1)) else if iz mo' < l1 then kx T' (iz o) (iz mo') (iz (o + 1)) else kx T' b1 l1 (iz (o + 1))) ∧ m_bestTwo_b18 N b2' l2 (iz o) km n S (iz mo) (iz p) = (if l2 < 0 then km S' (iz o) (iz mo') (iz (o + 1)) else if iz mo' < l2 then km S' (iz o) (iz mo') (iz (o + 1)) else km S' b2' l2 (iz (o + 1))) ∧ FW X M T' S' D q t ∧ 0 ≤ mo' ∧ mo' ≤ 2000 := by
  intro n
  induction n with
  | zero => intro p T S mo a b; omega
  | succ n ih =>
    intro p T S mo a b hf hm
    have n9 := h.1.1.2
    have no : iz o + 1 = iz (o + 1) := by rw [show (1 : Int32) = iz 1 from rfl, iz_add]
    have np : iz p + 1 = iz ((p + 1 : Nat) : Int) := by rw [show (1 : Int32) = iz 1 from rfl, iz_add]; rfl
    have t1 : T.1 1 = iz (mi M 0) := (h.scr hf.1 (sm.rf M)).1.1.1
    have s0 : S.1 0 = iz (mi M 0) := by rw [hf.2.1.2.1 0 rfl, mi_eq]
    rw [x_bestLater_b19, m_bestTwo_b18, t1, s0]
    by_cases c : mi M 0 ≤ p
    · refine ⟨T, S, mo, iteTE ((iz_le (by omega)).mpr c) ?_, iteTE ((iz_le (by omega)).mpr c) ?_, hf, hm⟩
      · rw [nmE, nmE, no]
      · rw [nmE, nmE, no]
    have cc : ¬ iz (mi M 0) ≤ iz p := fun z => c ((iz_le (by omega)).mp z)
    obtain ⟨r, T1, S1, g1, g2, g3, g4⟩ := gap2_iz hf hN (p := p) (o := o) (by omega) ho
    obtain ⟨T', S', mo', k1, k2, k3⟩ := ih (p + 1) T1 S1 (max mo r) (by omega) (by omega) g3 (by omega)
    refine ⟨T', S', mo', iteFE cc (b2E g1 ?_), iteFE cc (b2E g2 ?_), k3⟩
    · rw [nmE, nmE, np, jmax_iz (by omega)]; exact k1
    · rw [nmE, nmE, np, jmax_iz (by omega)]; exact k2
theorem later_l {X : XS} {M : MS} {D : Nat} {q t : Nat → Int} (h : R X M) {N : Nat} (hN : 10000 ≤ N) : ∀ (n o : Nat) (T : XS) (S : MS) (bx lx bm lm : Int), o ≤ 100 → 100 - o < n → FW X M T S D q t → ((o = 0 ∧ bx = -2 ∧ lx = 0 ∧ bm = 0 ∧ lm = -1) ∨ (1 ≤ o ∧ bx = bm ∧ 0 ≤ bx ∧ bx ≤ 99 ∧ lx = lm ∧ 0 ≤ lx ∧ lx ≤ 2000)) → ∃ v T' S', x_bestLater_b7 N n T (iz bx) (iz lx) (iz o) = some (v, T') ∧ m_bestTwo_b6 N n S (iz bm) (iz lm) (iz o) = some (v, S') ∧ FW X M T' S' D q t := by
  intro n
  induction n with
  | zero => intro o T S bx lx bm lm a b; omega
  | succ n ih =>
    intro o T S bx lx bm lm a b hf hb
    have n9 := h.1.1.2
    rw [x_bestLater_b7, m_bestTwo_b6]
    by_cases c : o = 100
    · subst c
      rcases hb with hb | ⟨-, e, -⟩
      · omega
      · rw [e]
        exact ⟨iz bm, T, S, iteTE (by decide) rfl, iteTE (by decide) rfl, hf⟩
    have c1 : ¬ (99 : Int32) < iz o := by rw [show (99 : Int32) = iz 99 from rfl, iz_lt (by omega)]; omega
    have c2 : ¬ (100 : Int32) ≤ iz o := by rw [show (100 : Int32) = iz 100 from rfl, iz_le (by omega)]; omega
    obtain ⟨T', S', mo, g1, g2, g3, g4⟩ := most_l h hN (o := o) (by omega) (fun t y1 y2 y3 => x_bestLater_b7 N n t y1 y2 y3) (fun t y1 y2 y3 => m_bestTwo_b6 N n t y1 y2 y3) (iz bx) (iz lx) (iz bm) (iz lm) N 0 T S 0 (by omega) (by omega) hf (by omega)
    have e0 : ((o : Nat) : Int) + 1 = ((o + 1 : Nat) : Int) := by omega
    rw [e0] at g1 g2
    have go : ∀ (bx' lx' : Int), (0 ≤ bx' ∧ bx' ≤ 99) → (0 ≤ lx' ∧ lx' ≤ 2000) → ∃ v T'' S'', x_bestLater_b7 N n T' (iz bx') (iz lx') (iz ((o + 1 : Nat) : Int)) = some (v, T'') ∧ m_bestTwo_b6 N n S' (iz bx') (iz lx') (iz ((o + 1 : Nat) : Int)) = some (v, S'') ∧ FW X M T'' S'' D q t := fun bx' lx' u1 u2 => ih (o + 1) T' S' bx' lx' bx' lx' (by omega) (by omega) g3 (Or.inr ⟨by omega, rfl, u1.1, u1.2, rfl, u2⟩)
    rcases hb with ⟨e1, e2, e3, e4, e5⟩ | ⟨e1, e2, e3, e4, e5, e6, e7⟩
    · obtain ⟨v, T2, S2, k1, k2, k3⟩ := go o mo (by omega) g4
      subst e2 e3 e4 e5
      exact ⟨v, T2, S2, iteFE c1 (g1.trans (iteTE (by decide) k1)), iteFE c2 (g2.trans (iteTE (by decide) k2)), k3⟩
    · subst e2 e5
      have p1 : ¬ iz bx < 0 := by rw [show (0 : Int32) = iz 0 from rfl, iz_lt (by omega)]; omega
      have p2 : ¬ iz lx < 0 := by rw [show (0 : Int32) = iz 0 from rfl, iz_lt (by omega)]; omega
      have p3 : (iz mo < iz lx) ↔ mo < lx := iz_lt (by omega)
      by_cases d : mo < lx
      · obtain ⟨v, T2, S2, k1, k2, k3⟩ := go o mo (by omega) g4
        exact ⟨v, T2, S2, iteFE c1 (g1.trans (iteFE p1 (iteTE (p3.mpr d) k1))), iteFE c2 (g2.trans (iteFE p2 (iteTE (p3.mpr d) k2))), k3⟩
      · obtain ⟨v, T2, S2, k1, k2, k3⟩ := go bx lx (by omega) (by omega)
        exact ⟨v, T2, S2, iteFE c1 (g1.trans (iteFE p1 (iteFE (fun z => d (p3.mp z)) k1))), iteFE c2 (g2.trans (iteFE p2 (iteFE (fun z => d (p3.mp z)) k2))), k3⟩
theorem two_in {X : XS} {M : MS} (h : R X M) {N : Nat} (hN : 10000 ≤ N) {s : Nat} (hs : s < 6) {r f : Int} (hr : -1 ≤ r ∧ r < mi M 0) (hf : 0 ≤ r → 0 ≤ f ∧ f ≤ 99) : same (x_two_b37 N (iz s) (iz r) (iz f) X) (m_two_b33 N (iz s) (iz r) (iz f) M) := by
  have n9 := h.1.1.2
  unfold x_two_b37 m_two_b33
  rcases lay_forth h (N := N) (by omega) hs with ⟨e, he, l1, l2⟩ | ⟨T, S, V, D, q, t, l1, l2, l3, l4, l5⟩
  · have ne : ¬ (0 : Int32) ≤ iz e := by rw [show (0 : Int32) = iz 0 from rfl, iz_le (by omega)]; omega
    exact ⟨_, _, _, b2E l1 (iteFE ne rfl), bindE l2 (iteFE ne rfl), h.scr ((xs.rf X).setI rfl _) (sm.rf M)⟩
  have le0 : ((0 : Int32) ≤ iz r) ↔ 0 ≤ r := by rw [show (0 : Int32) = iz 0 from rfl, iz_le (by omega)]
  have eq1 : (iz r = (-1 : Int32)) ↔ r = -1 := by rw [show (-1 : Int32) = iz (-1) from rfl, iz_eq (by omega)]
  by_cases c : 0 ≤ r
  · obtain ⟨v, T', S', g1, g2, g3, -⟩ := gap2_iz l5 hN (p := r) (o := f) (by omega) (hf c)
    exact ⟨iz v, T', S', b2E l1 (iteTE (by decide) (iteTE (le0.mpr c) (b2E g1 rfl))), bindE l2 (iteTE (by decide) (bindE l3 (bindE l4 (iteFE (fun z => by have := eq1.mp z; omega) (b2E g2 rfl))))), h.scr g3.1 g3.2.1⟩
  · obtain ⟨v, T', S', g1, g2, g3⟩ := later_l h hN N 0 T V (-2) 0 0 (-1) (by omega) (by omega) l5 (Or.inl ⟨rfl, rfl, rfl, rfl, rfl⟩)
    have g1' : x_bestLater N T = some (v, T') := g1
    have g2' : m_bestTwo N V = some (v, S') := g2
    exact ⟨v, T', S', b2E l1 (iteTE (by decide) (iteFE (fun z => c (le0.mp z)) (b2E g1' rfl))), bindE l2 (iteTE (by decide) (bindE l3 (bindE l4 (iteTE (eq1.mpr (by omega)) (b2E g2' rfl))))), h.scr g3.1 g3.2.1⟩
theorem law_two {X : XS} {M : MS} (h : R X M) {N : Nat} (hN : 10000 ≤ N) (p w v : Int32) : same (x_two N X p w v) (m_two N M p w v) := by
  obtain ⟨z, hz, rfl⟩ := izE p
  obtain ⟨r, hr, rfl⟩ := izE w
  obtain ⟨f, hf, rfl⟩ := izE v
  have n9 := h.1.1.2
  unfold x_two m_two
  by_cases c : ¬ (0 ≤ z ∧ z ≤ 5)
  · exact ⟨_, _, _, bindE (shelfF hz c) (iteTE rfl rfl), bindE (shelfF hz c) (iteTE rfl rfl), h⟩
  replace c := Decidable.not_not.mp c
  have w1 : x_in (iz r) (-1) (X.1 1 - 1) = some (decide (-1 ≤ r ∧ r ≤ mi M 0 - 1)) := by rw [h.1.1.1, show (-1 : Int32) = iz (-1) from rfl, show (1 : Int32) = iz 1 from rfl, iz_sub, x_in_iz (by omega)]
  have w2 := m_isPost_iz (M := M) h.1.1.2 hr
  have eq1 : (iz r = (-1 : Int32)) ↔ r = -1 := by rw [show (-1 : Int32) = iz (-1) from rfl, iz_eq (by omega)]
  have lt0 : (iz r < (0 : Int32)) ↔ r < 0 := by rw [show (0 : Int32) = iz 0 from rfl, iz_lt (by omega)]
  by_cases cp : ¬ (-1 ≤ r ∧ r ≤ mi M 0 - 1)
  · rw [decide_eq_false cp] at w1
    rw [decide_eq_false (by omega)] at w2
    exact ⟨_, _, _, bindE (shelfT c) (iteFE b2iT (bindE w1 (iteTE rfl rfl))), bindE (shelfT c) (iteFE b2iT (iteFE (fun y => by have := eq1.mp y; omega) (bindE w2 (iteTE rfl rfl)))), h⟩
  replace cp := Decidable.not_not.mp cp
  rw [decide_eq_true cp] at w1
  obtain ⟨s, rfl⟩ : ∃ s : Nat, z = s := ⟨z.toNat, by omega⟩
  by_cases cr : r < 0
  · obtain ⟨a, T', S', g1, g2, g3⟩ := two_in h hN (s := s) (by omega) (r := r) (f := f) (by omega) (fun y => by omega)
    exact ⟨a, T', S', bindE (shelfT c) (iteFE b2iT (bindE w1 (iteFE b2iT (iteTE (lt0.mpr cr) g1)))), bindE (shelfT c) (iteFE b2iT (iteTE (eq1.mpr (by omega)) g2)), g3⟩
  rw [decide_eq_true (by omega)] at w2
  have cn : ¬ iz r = (-1 : Int32) := fun y => by have := eq1.mp y; omega
  have f1 : x_in (iz f) 0 99 = some (decide (0 ≤ f ∧ f ≤ 99)) := by rw [show (0 : Int32) = iz 0 from rfl, show (99 : Int32) = iz 99 from rfl, x_in_iz (by omega)]
  have f2 : m_within (iz f) 0 99 = some (decide (0 ≤ f ∧ f ≤ 99)) := f1
  by_cases cf : ¬ (0 ≤ f ∧ f ≤ 99)
  · rw [decide_eq_false cf] at f1 f2
    exact ⟨_, _, _, bindE (shelfT c) (iteFE b2iT (bindE w1 (iteFE b2iT (iteFE (fun y => cr (lt0.mp y)) (bindE f1 (iteTE rfl rfl)))))), bindE (shelfT c) (iteFE b2iT (iteFE cn (bindE w2 (iteFE b2iT (bindE f2 (iteTE rfl rfl)))))), h⟩
  replace cf := Decidable.not_not.mp cf
  rw [decide_eq_true cf] at f1 f2
  obtain ⟨a, T', S', g1, g2, g3⟩ := two_in h hN (s := s) (by omega) (r := r) (f := f) (by omega) (fun _ => cf)
  exact ⟨a, T', S', bindE (shelfT c) (iteFE b2iT (bindE w1 (iteFE b2iT (iteFE (fun y => cr (lt0.mp y)) (bindE f1 (iteFE b2iT g1)))))), bindE (shelfT c) (iteFE b2iT (iteFE cn (bindE w2 (iteFE b2iT (bindE f2 (iteFE b2iT g2)))))), g3⟩
