/-! PLAIN LAW: drawn. Own text. -/
set_option maxRecDepth 100000
/-- not by rfl: what the kernel need not unfold -/
theorem nmE {α β : Type} (x : α) (f : α → Option β) : nm x f = f x := (nm_eq x f).trans (Eq.refl _)
theorem jushr8 (x : Int32) : ∃ z : Int, (0 ≤ z ∧ z < 16777216) ∧ jushr x 8 = iz z := by
  refine ⟨(jushr x 8).toInt, ?_, (iz_of _).symm⟩
  have h : (x.toUInt32 >>> (8 : UInt32)).toNat < 16777216 := by
    rw [UInt32.toNat_shiftRight]
    have := x.toUInt32.toNat_lt
    show x.toUInt32.toNat >>> 8 < 16777216
    rw [Nat.shiftRight_eq_div_pow]
    omega
  have e : (jushr x 8).toInt = ((x.toUInt32 >>> (8 : UInt32)).toNat : Int) := by
    show (x.toUInt32 >>> (8 : UInt32)).toBitVec.toInt = _
    rw [BitVec.toInt_eq_toNat_of_lt (by show 2 * (x.toUInt32 >>> (8 : UInt32)).toNat < _; omega)]
    rfl
  omega
theorem idxF {s j k : Int} (hk : 1 ≤ k ∧ k ≤ 9) (hs : 0 ≤ s + j) : ((s + j) % k + 1) % k = (s + (j + 1)) % k ∧ 0 ≤ (s + j) % k ∧ (s + j) % k < k := by
  rcases (show k = 1 ∨ k = 2 ∨ k = 3 ∨ k = 4 ∨ k = 5 ∨ k = 6 ∨ k = 7 ∨ k = 8 ∨ k = 9 by omega) with e | e | e | e | e | e | e | e | e <;> subst e <;> omega
theorem idxB {s j k : Int} (hk : 1 ≤ k ∧ k ≤ 9) (hs : 0 ≤ s - j + k) : ((s - j + k) % k + (k - 1)) % k = (s - (j + 1) + k) % k ∧ 0 ≤ (s - j + k) % k ∧ (s - j + k) % k < k := by
  rcases (show k = 1 ∨ k = 2 ∨ k = 3 ∨ k = 4 ∨ k = 5 ∨ k = 6 ∨ k = 7 ∨ k = 8 ∨ k = 9 by omega) with e | e | e | e | e | e | e | e | e <;> subst e <;> omega
/-- the place at a step -/
def plc (d s j k : Int) : Int := if d = 0 then (s + j) % k else (s - j + k) % k
theorem plc_next {d s j k : Int} (hk : 1 ≤ k ∧ k ≤ 9) (hs : 0 ≤ s ∧ s < k) (hj : 0 ≤ j ∧ j < k) : (plc d s j k + (if d = 0 then 1 else k - 1)) % k = plc d s (j + 1) k ∧ 0 ≤ plc d s j k ∧ plc d s j k < k := by
  unfold plc
  by_cases c : d = 0
  · rw [if_pos c, if_pos c, if_pos c]; exact idxF hk (by omega)
  · rw [if_neg c, if_neg c, if_neg c]; exact idxB hk (by omega)
theorem round_l {X : XS} {M : MS} (h : R X M) (N : Nat) {k : Nat} (hk : mi M 0 = k) (k1 : 1 ≤ k) {d s : Int} (hd : d = 0 ∨ d = 1) (hs : 0 ≤ s ∧ s < k) {l2 l3' l4 l5 l6 l7 l10 : Int32} {k72 k47 : Int32 → Int32 → Int32 → Int32 → Option Int32} : ∀ (n j : Nat) (T : XS) (r : Int) (l3 l8 : Int32), j ≤ k → k - j < n → xs X T → T.1 28 = iz r → (-1 ≤ r ∧ r < k) → ∃ (e : Int32) (T' : XS) (r' : Int), x_roundFrom_b5 N (iz s) (iz d) n T l3 (iz j) = some (l3 + e, T') ∧ m_drawn_b131 N M l2 l3' l4 l5 l6 l7 l10 (iz (if d = 0 then 1 else (k : Int) - 1)) k72 k47 n l8 (iz r) (iz (plc d s j k)) (iz j) = k72 l4 (l8 + e) (iz r') (l10 + 1) ∧ xs X T' ∧ T'.1 28 = iz r' ∧ -1 ≤ r' ∧ r' < k := by
  have k9 := h.1.1.2
  intro n
  induction n with
  | zero => intro j T r l3 l8 h1 h2; omega
  | succ n ih =>
    intro j T r l3 l8 h1 h2 hx h28 hr
    have rT : RP T M := (h.scr hx (sm.rf M)).1
    have t1 : T.1 1 = iz k := by rw [rT.1.1, hk]
    have m1 : M.1 0 = iz k := by rw [mi_eq, hk]
    rw [x_roundFrom_b5, m_drawn_b131]
    by_cases q : k ≤ j
    · refine ⟨0, T, r, iteTE (by rw [t1, iz_le (by omega)]; omega) (by rw [Int32.add_zero]), iteTE (by rw [m1, iz_le (by omega)]; omega) ?_, hx, h28, hr⟩
      rw [nm_eq, Int32.add_zero]
    obtain ⟨p1, p2, p3⟩ := plc_next (d := d) (s := s) (j := j) (k := k) (by omega) hs (by omega)
    generalize hp : plc d s j k = p at p1 p2 p3
    have t5 : T.1 5 = M.2.1 5 3 := by rw [rT.2.1.2.2.2, ← ma_eq]
    have ni : iz j + 1 = iz ((j + 1 : Nat) : Int) := by rw [show (1 : Int32) = iz 1 from rfl, iz_add]; rfl
    obtain ⟨e, T', r', g1, g2, g3⟩ := ih (j + 1) (xI T 28 (iz p)) p (l3 + (T.1 5 + iz (dst M r p))) (l8 + (iz (dst M r p) + M.2.1 5 3)) (by omega) (by omega) (hx.setI rfl _) rfl (by omega)
    have b34 : ∀ (k5 : XS → Int32 → Int32 → Option (Int32 × XS)) (s1 : Int32), jrem s1 (iz k) = iz p → x_roundFrom_b34 N (iz s) (iz d) l3 (iz j) k5 T s1 = k5 (xI T 28 (iz p)) (l3 + (T.1 5 + iz (dst M r p))) (iz ((j + 1 : Nat) : Int)) := by
      intro k5 s1 hs1
      unfold x_roundFrom_b34
      rw [t1, nz_iz (by omega), nm_eq, hs1, h28]
      by_cases c : 0 ≤ r
      · refine iteTE (by rw [show (0 : Int32) = iz 0 from rfl, iz_le (by omega)]; exact c) (bindE (x_between_iz rT (by omega) (by omega)) ?_)
        unfold x_roundFrom_b72
        simp only [nm_eq]
        rw [ni]
      · obtain rfl : r = -1 := by omega
        refine iteFE (by decide) (bindE (x_fromGate_iz rT (by omega)) ?_)
        unfold x_roundFrom_b72
        simp only [nm_eq]
        rw [ni, dst_comm]
    refine ⟨(T.1 5 + iz (dst M r p)) + e, T', r', ?_, ?_, g3⟩
    · refine iteFE (by rw [t1, iz_le (by omega)]; omega) ?_
      rw [← Int32.add_assoc]
      rcases hd with rfl | rfl
      · refine iteTE rfl ((b34 _ _ ?_).trans g1)
        rw [iz_add, jrem_iz (by omega), ← hp]
        rfl
      · refine iteFE (by decide) ((b34 _ _ ?_).trans g1)
        rw [t1, iz_sub, iz_add, jrem_iz (by omega), ← hp]
        rfl
    · refine iteFE (by rw [m1, iz_le (by omega)]; omega) (bindE (m_minutes_iz rT (by omega) (by omega)) ?_)
      rw [m1, nm_eq, nz_iz (by omega), nm_eq, nm_eq, ni, iz_add, jrem_iz (by split <;> omega), p1, t5]
      refine g2.trans ?_
      rw [Int32.add_assoc, Int32.add_comm (iz (dst M r p))]
theorem drawn_in {X : XS} {M : MS} (h : R X M) {N : Nat} (hN : 20 ≤ N) {k : Nat} (hk : mi M 0 = k) (k1 : 1 ≤ k) {q : Int} (hq : 0 ≤ q ∧ q ≤ 2147483647) {l3 l5 l6 l7 : Int32} (kx : XS → Int32 → Int32 → Int32 → Int32 → Option (Int32 × XS)) (km : Int32 → Int32 → Int32 → Int32 → Option Int32) : ∀ (n j : Nat) (T : XS) (r : Int) (l4 l8 : Int32), j ≤ 9 → 9 - j < n → xs X T → T.1 28 = iz r → (-1 ≤ r ∧ r < k) → ∃ (T' : XS) (a b c d : Int32), x_drawn_b74 N (iz q) l3 l5 l6 l7 kx n T l4 l8 (iz j) = kx T' a b c d ∧ m_drawn_b72 N M (iz q) l3 l5 l6 l7 km n l4 l8 (iz r) (iz j) = km a b c d ∧ xs X T' ∧ d = l7 + 1 := by
  have k9 := h.1.1.2
  intro n
  induction n with
  | zero => intro j T r l4 l8 h1 h2; omega
  | succ n ih =>
    intro j T r l4 l8 h1 h2 hx h28 hr
    have rT : RP T M := (h.scr hx (sm.rf M)).1
    have t1 : T.1 1 = iz k := by rw [rT.1.1, hk]
    have m1 : M.1 0 = iz k := by rw [mi_eq, hk]
    have jq : jrem (iz q) 10 = iz (q % 10) := by rw [show (10 : Int32) = iz 10 from rfl, jrem_iz (by omega)]
    have ni : iz j + 1 = iz ((j + 1 : Nat) : Int) := by rw [show (1 : Int32) = iz 1 from rfl, iz_add]; rfl
    rw [x_drawn_b74, m_drawn_b72, jq]
    generalize l4 * 1103515245 + 12345 = x4
    simp only [nmE]
    by_cases c : q % 10 ≤ j
    · exact ⟨T, _, _, _, _, iteTE ((iz_le (by omega)).mpr c) rfl, iteTE ((iz_le (by omega)).mpr c) rfl, hx, rfl⟩
    have cj : ¬ iz (q % 10) ≤ iz j := fun z => c ((iz_le (by omega)).mp z)
    obtain ⟨z, hz, ez⟩ := jushr8 x4
    have st : jrem (jushr x4 8) (iz k) = iz (z % k) := by rw [ez, jrem_iz (by omega)]
    have zk : 0 ≤ z % (k : Int) ∧ z % (k : Int) < k := ⟨Int.emod_nonneg _ (by omega), Int.emod_lt_of_pos _ (by omega)⟩
    rw [t1, m1, st]
    by_cases b : (jushr x4 16 &&& 1) = 1
    · obtain ⟨e, T1, r1, g1, g2, g3, g4, g5⟩ := round_l h N hk k1 (d := 1) (Or.inr rfl) zk (l2 := iz q) (l3' := l3) (l4 := x4) (l5 := l5) (l6 := l6) (l7 := l7) (l10 := iz j) (k72 := fun y4 y8 y9 y10 => m_drawn_b72 N M (iz q) l3 l5 l6 l7 km n y4 y8 y9 y10) (k47 := km) N 0 T r 0 l8 (by omega) (by omega) hx h28 hr
      obtain ⟨T', a, b', c', d', u1, u2, u3⟩ := ih (j + 1) T1 r1 x4 (l8 + e) (by omega) (by omega) g3 g4 g5
      have p0 : plc 1 (z % k) ((0 : Nat) : Int) k = z % k := by
        unfold plc
        rw [if_neg (by decide), show z % (k : Int) - ((0 : Nat) : Int) + k = z % k + k by omega]
        rcases (show k = 1 ∨ k = 2 ∨ k = 3 ∨ k = 4 ∨ k = 5 ∨ k = 6 ∨ k = 7 ∨ k = 8 ∨ k = 9 by omega) with e | e | e | e | e | e | e | e | e <;> subst e <;> omega
      rw [p0, show (if (1 : Int) = 0 then (1 : Int) else (k : Int) - 1) = (k : Int) - 1 from if_neg (by decide)] at g2
      refine ⟨T', a, b', c', d', iteFE cj ?_, iteFE cj ?_, u3⟩
      · rw [nz_iz (by omega)]
        refine iteTE b ?_
        unfold x_roundFrom
        refine b2E g1 ?_
        rw [ni, Int32.zero_add]
        exact u1
      · rw [nz_iz (by omega)]
        refine iteTE b ?_
        rw [show iz (k : Int) - 1 = iz ((k : Int) - 1) by rw [show (1 : Int32) = iz 1 from rfl, iz_sub]]
        refine g2.trans ?_
        rw [ni]
        exact u2
    · obtain ⟨e, T1, r1, g1, g2, g3, g4, g5⟩ := round_l h N hk k1 (d := 0) (Or.inl rfl) zk (l2 := iz q) (l3' := l3) (l4 := x4) (l5 := l5) (l6 := l6) (l7 := l7) (l10 := iz j) (k72 := fun y4 y8 y9 y10 => m_drawn_b72 N M (iz q) l3 l5 l6 l7 km n y4 y8 y9 y10) (k47 := km) N 0 T r 0 l8 (by omega) (by omega) hx h28 hr
      obtain ⟨T', a, b', c', d', u1, u2, u3⟩ := ih (j + 1) T1 r1 x4 (l8 + e) (by omega) (by omega) g3 g4 g5
      have p0 : plc 0 (z % k) ((0 : Nat) : Int) k = z % k := by
        unfold plc
        rw [if_pos rfl, show z % (k : Int) + ((0 : Nat) : Int) = z % k by omega]
        rcases (show k = 1 ∨ k = 2 ∨ k = 3 ∨ k = 4 ∨ k = 5 ∨ k = 6 ∨ k = 7 ∨ k = 8 ∨ k = 9 by omega) with e | e | e | e | e | e | e | e | e <;> subst e <;> omega
      rw [p0, show (if (0 : Int) = 0 then (1 : Int) else (k : Int) - 1) = 1 from if_pos rfl, show iz 1 = (1 : Int32) from rfl] at g2
      refine ⟨T', a, b', c', d', iteFE cj ?_, iteFE cj ?_, u3⟩
      · rw [nz_iz (by omega)]
        refine iteFE b ?_
        unfold x_roundFrom
        refine b2E g1 ?_
        rw [ni, Int32.zero_add]
        exact u1
      · rw [nz_iz (by omega)]
        refine iteFE b ?_
        refine g2.trans ?_
        rw [ni]
        exact u2
theorem drawn_l {X : XS} {M : MS} (h : R X M) {N : Nat} (hN : 100 ≤ N) {q : Int} (hq : 0 ≤ q ∧ q ≤ 2147483647) (h30 : q / 10 ≤ 30) {l3 : Int32} : ∀ (n i : Nat) (T : XS) (l4 l5 l6 : Int32), i ≤ 30 → 30 - i < n → xs X T → ∃ v T', x_drawn_b47 N (iz q) l3 n T l4 l5 l6 (iz i) = some (v, T') ∧ m_drawn_b47 N M (iz q) l3 n l4 l5 l6 (iz i) = some v ∧ xs X T' := by
  have k9 := h.1.1.2
  intro n
  induction n with
  | zero => intro i T l4 l5 l6 h1 h2; omega
  | succ n ih =>
    intro i T l4 l5 l6 h1 h2 hx
    obtain ⟨k, hk⟩ : ∃ k : Nat, mi M 0 = k := ⟨(mi M 0).toNat, by omega⟩
    have rT : RP T M := (h.scr hx (sm.rf M)).1
    have t1 : T.1 1 = iz k := by rw [rT.1.1, hk]
    have m1 : M.1 0 = iz k := by rw [mi_eq, hk]
    have dq : iz q / 10 = iz (q / 10) := by rw [show (10 : Int32) = iz 10 from rfl, iz_div (by omega)]
    have ni : iz i + 1 = iz ((i + 1 : Nat) : Int) := by rw [show (1 : Int32) = iz 1 from rfl, iz_add]; rfl
    rw [x_drawn_b47, m_drawn_b47, dq, t1, m1]
    by_cases c : q / 10 ≤ i
    · have cc := (iz_le (a := q / 10) (b := i) (by omega)).mpr c
      by_cases d : l3 = 0
      · exact ⟨_, T, iteTE cc (iteTE d rfl), iteTE cc (iteTE d rfl), hx⟩
      · exact ⟨_, T, iteTE cc (iteFE d rfl), iteTE cc (iteFE d rfl), hx⟩
    have cc : ¬ iz (q / 10) ≤ iz i := fun z => c ((iz_le (by omega)).mp z)
    by_cases c0 : k ≤ 0
    · have c1 : iz k ≤ 0 := by rw [show (0 : Int32) = iz 0 from rfl, iz_le (by omega)]; omega
      by_cases d : l3 = 0
      · exact ⟨_, T, iteFE cc (iteTE c1 (iteTE d rfl)), iteFE cc (iteTE c1 (iteTE d rfl)), hx⟩
      · exact ⟨_, T, iteFE cc (iteTE c1 (iteFE d rfl)), iteFE cc (iteTE c1 (iteFE d rfl)), hx⟩
    have c1 : ¬ iz k ≤ 0 := by rw [show (0 : Int32) = iz 0 from rfl, iz_le (by omega)]; omega
    obtain ⟨T1, a, b, c', d, u1, u2, u3, u4⟩ := drawn_in h (N := N) (by omega) hk (by omega) hq (l3 := l3) (l5 := l5) (l6 := l6) (l7 := iz i) (fun t y4 y5 y6 y7 => x_drawn_b47 N (iz q) l3 n t y4 y5 y6 y7) (fun y4 y5 y6 y7 => m_drawn_b47 N M (iz q) l3 n y4 y5 y6 y7) N 0 (xI T 28 (-1)) (-1) l4 0 (by omega) (by omega) (hx.setI rfl _) rfl (by omega)
    obtain ⟨v, T', g1, g2, g3⟩ := ih (i + 1) T1 a b c' (by omega) (by omega) u3
    rw [u4, ni] at u1 u2
    refine ⟨v, T', iteFE cc (iteFE c1 ?_), iteFE cc (iteFE c1 (u2.trans g2)), g3⟩
    rw [nm_eq]
    exact u1.trans g1
theorem law_drawn {X : XS} {M : MS} (h : R X M) {N : Nat} (hN : 100 ≤ N) (p w v : Int32) : sameX M (x_drawn N X p w v) (m_drawn N M p w v) := by
  obtain ⟨q, hq, rfl⟩ := izE w
  obtain ⟨f, hf, rfl⟩ := izE v
  unfold x_drawn m_drawn
  have z : (iz q < 0) ↔ q < 0 := by rw [show (0 : Int32) = iz 0 from rfl, iz_lt (by omega)]
  by_cases c : q < 0
  · exact ⟨_, _, iteTE (z.mpr c) rfl, iteTE (z.mpr c) rfl, h⟩
  have dq : iz q / 10 = iz (q / 10) := by rw [show (10 : Int32) = iz 10 from rfl, iz_div (by omega)]
  have jq : jrem (iz q) 10 = iz (q % 10) := by rw [show (10 : Int32) = iz 10 from rfl, jrem_iz (by omega)]
  have w1 : x_in (iz q / 10) 1 30 = some (decide (1 ≤ q / 10 ∧ q / 10 ≤ 30)) := by rw [dq, show (1 : Int32) = iz 1 from rfl, show (30 : Int32) = iz 30 from rfl, x_in_iz (by omega)]
  have w2 : m_within (iz q / 10) 1 30 = some (decide (1 ≤ q / 10 ∧ q / 10 ≤ 30)) := w1
  have cx : ¬ iz q < 0 := fun y => c (z.mp y)
  by_cases c1 : ¬ (1 ≤ q / 10 ∧ q / 10 ≤ 30)
  · rw [decide_eq_false c1] at w1 w2
    exact ⟨_, _, iteFE cx (bindE w1 (iteTE rfl rfl)), iteFE cx (bindE w2 (iteTE rfl rfl)), h⟩
  replace c1 := Decidable.not_not.mp c1
  rw [decide_eq_true c1] at w1 w2
  have z2 : (jrem (iz q) 10 = 0) ↔ q % 10 = 0 := by rw [jq, show (0 : Int32) = iz 0 from rfl, iz_eq (by omega)]
  by_cases c2 : q % 10 = 0
  · exact ⟨_, _, iteFE cx (bindE w1 (iteFE b2iT (iteTE (z2.mpr c2) rfl))), iteFE cx (bindE w2 (iteFE b2iT (iteTE (z2.mpr c2) rfl))), h⟩
  have c2x : ¬ jrem (iz q) 10 = 0 := fun y => c2 (z2.mp y)
  have f1 : x_in (iz f) 0 1 = some (decide (0 ≤ f ∧ f ≤ 1)) := by rw [show (0 : Int32) = iz 0 from rfl, show (1 : Int32) = iz 1 from rfl, x_in_iz (by omega)]
  have f2 : m_within (iz f) 0 1 = some (decide (0 ≤ f ∧ f ≤ 1)) := f1
  by_cases c3 : ¬ (0 ≤ f ∧ f ≤ 1)
  · rw [decide_eq_false c3] at f1 f2
    exact ⟨_, _, iteFE cx (bindE w1 (iteFE b2iT (iteFE c2x (bindE f1 (iteTE rfl rfl))))), iteFE cx (bindE w2 (iteFE b2iT (iteFE c2x (bindE f2 (iteTE rfl rfl))))), h⟩
  replace c3 := Decidable.not_not.mp c3
  rw [decide_eq_true c3] at f1 f2
  obtain ⟨v, T', g1, g2, g3⟩ := drawn_l h hN (q := q) (by omega) c1.2 (l3 := iz f) N 0 X p 0 0 (by omega) (by omega) (xs.rf X)
  exact ⟨v, T', iteFE cx (bindE w1 (iteFE b2iT (iteFE c2x (bindE f1 (iteFE b2iT g1))))), iteFE cx (bindE w2 (iteFE b2iT (iteFE c2x (bindE f2 (iteFE b2iT g2))))), h.scr g3 (sm.rf M)⟩
