/-! PLAIN LAW: both ways in both; success. Own text. -/
set_option maxRecDepth 100000
theorem Kp.xs {X U U' : XS} {f : Nat} (k : Kp U U' f) (hf : scrA f = true) (h : xs X U) : xs X U' := ⟨k.2.2.trans h.1, fun j hj => (congrFun k.1 j).trans (h.2.1 j hj), fun j hj => (k.2.1 j (fun z => by rw [z, hf] at hj; cases hj)).trans (h.2.2 j hj)⟩
theorem xw_of {X T : XS} {M S : MS} {L : Nat} {g : Nat → Int} (h : R X M) (hr : Rnd X M T S L g) {N : Nat} (hN : 5000 ≤ N) {d : Int} (hd : d = 0 ∨ d = 1) : ∃ (U : XS) (D : Nat), x_layDents N T (iz d) = some U ∧ xs X U ∧ Rnd X M U S L g ∧ XW M U D (qf g L d) (tm M (qf g L d)) ∧ (if L = 0 then D = 0 else Dn M (qf g L d) 4000 D) ∧ ∀ r, r ≠ 14 → r ≠ 15 → U.2.1 r = T.2.1 r := by
  obtain ⟨U, D, a1, a2, a3, a4, a5, a6, a7, a8, a9⟩ := dents_iz h hr hN hd
  have n9 := h.1.1.2
  refine ⟨U, D, a1, a2, ⟨a2, hr.2.1, hr.2.2.1, a3.trans hr.2.2.2.1, hr.2.2.2.2.1, fun j hj => by rw [a4]; exact hr.2.2.2.2.2 j hj⟩, ?_, a7, a8⟩
  by_cases c : L = 0
  · rw [if_pos c] at a7
    subst a7
    exact ⟨by omega, a5, fun j hj => absurd hj (by omega)⟩
  · rw [if_neg c] at a7
    refine ⟨a7.1, a5, fun j hj => ⟨a6 j hj, ?_, (tm_R h.1 (qf_R hr (by omega) d) j).1, a7.2.1 j hj⟩⟩
    have := qf_R hr (by omega) d j
    omega
theorem seen_b {D : Nat} {q t : Nat → Int} {vis p : Int} {w : Nat} {v : Int32} (h : (Sn D q t vis p w ∧ v = 1) ∨ (¬ Sn D q t vis p w ∧ v = 0)) : v = b2i (seenB D q t vis p w) := by
  rcases h with ⟨a, b⟩ | ⟨a, b⟩
  · rw [seenB_iff.mpr a, b]; rfl
  · have : seenB D q t vis p w = false := by
      cases e : seenB D q t vis p w
      · rfl
      · exact absurd (seenB_iff.mp e) a
    rw [this, b]; rfl
theorem both_x {X T : XS} {M S : MS} {L : Nat} {g : Nat → Int} (h : R X M) (hr : Rnd X M T S L g) {N : Nat} (hN : 20000 ≤ N) {p : Int} (hp : 0 ≤ p ∧ p < 9) : ∃ (U : XS) (D0 D1 : Nat), ((x_laySeen_23 N T (iz p) 0).bind fun T6 => (x_laySeen_24 N T6 (iz p) 1).bind fun T9 => some ((0 : Int32), T9)) = some (0, U) ∧ xs X U ∧ (if L = 0 then D0 = 0 else Dn M (qf g L 0) 4000 D0) ∧ (if L = 0 then D1 = 0 else Dn M (qf g L 1) 4000 D1) ∧ ∀ u, u < 1000 → U.2.1 23 u = b2i (seenB D0 (qf g L 0) (tm M (qf g L 0)) (max 1 (ma M 5 3)) p u) ∧ U.2.1 24 u = b2i (seenB D1 (qf g L 1) (tm M (qf g L 1)) (max 1 (ma M 5 3)) p u) := by
  have hs := h.1.2.2.1.2.2.2
  obtain ⟨U, D0, a1, a2, a3, a4, a5, a6⟩ := xw_of h hr (N := N) (by omega) (d := 0) (Or.inl rfl)
  obtain ⟨U1, b1, b2, b3⟩ := ls1_23 (N := N) (by omega) (vis := max 1 (ma M 5 3)) (p := p) (by omega) hp N 0 U (by omega) (by omega) a4 (fun w hw => absurd hw (by omega))
  have x1 := b2.xs rfl a2
  have r1 : Rnd X M U1 S L g := ⟨x1, a3.2.1, a3.2.2.1, (congrFun b2.1 16).trans a3.2.2.2.1, a3.2.2.2.2.1, fun j hj => by rw [b2.2.1 13 (by decide)]; exact a3.2.2.2.2.2 j hj⟩
  obtain ⟨U2, D1, c1, c2, c3, c4, c5, c6⟩ := xw_of h r1 (N := N) (by omega) (d := 1) (Or.inr rfl)
  obtain ⟨U3, d1, d2, d3⟩ := ls1_24 (N := N) (by omega) (vis := max 1 (ma M 5 3)) (p := p) (by omega) hp N 0 U2 (by omega) (by omega) c4 (fun w hw => absurd hw (by omega))
  have v5 : ∀ W : XS, xs X W → jmax 1 (W.1 5) = iz (max 1 (ma M 5 3)) := fun W hW => by
    rw [show W.1 5 = iz (ma M 5 3) from (h.scr hW (sm.rf M)).1.2.1.2.2.2, show (1 : Int32) = iz 1 from rfl, jmax_iz (by omega)]
  refine ⟨U3, D0, D1, bindE (v := U1) ?_ (bindE (v := U3) ?_ rfl), d2.xs rfl c2, a5, c5, fun u hu => ⟨?_, seen_b (d3 u hu)⟩⟩
  · unfold x_laySeen_23
    refine bindE a1 ?_
    rw [nmE, v5 U a2]
    exact b1
  · unfold x_laySeen_24
    refine bindE c1 ?_
    rw [nmE, v5 U2 c2]
    exact d1
  · rw [d2.2.1 23 (by decide), c6 23 (by decide) (by decide)]
    exact seen_b (b3 u hu)
/-- both ways of a round, in both -/
def BW (U : XS) (V : MS) (f0 f1 : Nat → Bool) : Prop := ∀ u, u < 1000 → (U.2.1 23 u = b2i (f0 u) ∧ U.2.1 24 u = b2i (f1 u)) ∧ V.2.1 50 u = b2i (f0 u) ∧ V.2.1 50 (2000 + u) = b2i (f1 u)
theorem bw_of {X T : XS} {M S : MS} {L : Nat} {g : Nat → Int} (h : R X M) (hr : Rnd X M T S L g) {N : Nat} (hN : 20000 ≤ N) {p : Int} (hp : 0 ≤ p ∧ p < 9) : ∃ U V f0 f1, ((x_laySeen_23 N T (iz p) 0).bind fun T6 => (x_laySeen_24 N T6 (iz p) 1).bind fun T9 => some ((0 : Int32), T9)) = some (0, U) ∧ m_bothWays N S (iz p) = some V ∧ xs X U ∧ sm M V ∧ BW U V f0 f1 := by
  obtain ⟨U, D0, D1, a1, a2, a3, a4, a5⟩ := both_x h hr hN hp
  obtain ⟨V, E0, E1, b1, b2, b3, b4, b5⟩ := both_iz h hr hN hp
  have e : E0 = D0 ∧ E1 = D1 := by
    by_cases c : L = 0
    · rw [if_pos c] at a3 a4 b3 b4
      exact ⟨b3.trans a3.symm, b4.trans a4.symm⟩
    · rw [if_neg c] at a3 a4 b3 b4
      exact ⟨b3.uniq a3, b4.uniq a4⟩
  obtain ⟨rfl, rfl⟩ := e
  exact ⟨U, V, _, _, a1, b1, a2, b2, fun u hu => ⟨a5 u hu, b5 u (by omega)⟩⟩
theorem quiet23 {U : XS} {V : MS} {f0 f1 : Nat → Bool} (hb : BW U V f0 f1) (N : Nat) {a k : Nat} (hk : a + k ≤ 1000) : ∀ (n w : Nat), w ≤ a + k → a + k - w < n → ∃ b, x_isQuiet_23_b2 N U (iz a) (iz k) n (iz w) = some b ∧ m_isFree_b3 N V (iz 0) (iz a) (iz k) n (iz w) = some b := by
  intro n
  induction n with
  | zero => intro w h1 h2; omega
  | succ n ih =>
    intro w h1 h2
    rw [x_isQuiet_23_b2, m_isFree_b3, iz_add, show (2000 : Int32) * iz 0 + iz w = iz w by rw [show (2000 : Int32) = iz 2000 from rfl, iz_mul, iz_add]; congr 1; omega]
    by_cases c : a + k ≤ w
    · exact ⟨true, iteTE (by rw [iz_le (by omega)]; omega) rfl, iteTE (by rw [iz_le (by omega)]; omega) rfl⟩
    have cc : ¬ iz ((a : Int) + k) ≤ iz w := by rw [iz_le (by omega)]; omega
    have nw : iz w + 1 = iz ((w + 1 : Nat) : Int) := by rw [show (1 : Int32) = iz 1 from rfl, iz_add]; rfl
    obtain ⟨⟨p1, p2⟩, p3, p4⟩ := hb w (by omega)
    obtain ⟨b, b1, b2⟩ := ih (w + 1) (by omega) (by omega)
    rw [iz_clampN (by omega), p1, p3]
    cases f0 w
    · exact ⟨b, iteFE cc (chkE rfl (by omega) (iteTE rfl (by rw [nmE, nw]; exact b1))), iteFE cc (chkE rfl (by omega) (iteTE rfl (by rw [nmE, nw]; exact b2)))⟩
    · exact ⟨false, iteFE cc (chkE rfl (by omega) (iteFE b2iT rfl)), iteFE cc (chkE rfl (by omega) (iteFE b2iT rfl))⟩
theorem quiet24 {U : XS} {V : MS} {f0 f1 : Nat → Bool} (hb : BW U V f0 f1) (N : Nat) {a k : Nat} (hk : a + k ≤ 1000) : ∀ (n w : Nat), w ≤ a + k → a + k - w < n → ∃ b, x_isQuiet_24_b2 N U (iz a) (iz k) n (iz w) = some b ∧ m_isFree_b3 N V (iz 1) (iz a) (iz k) n (iz w) = some b := by
  intro n
  induction n with
  | zero => intro w h1 h2; omega
  | succ n ih =>
    intro w h1 h2
    rw [x_isQuiet_24_b2, m_isFree_b3, iz_add, show (2000 : Int32) * iz 1 + iz w = iz ((2000 + w : Nat) : Int) by rw [show (2000 : Int32) = iz 2000 from rfl, iz_mul, iz_add]; congr 1]
    by_cases c : a + k ≤ w
    · exact ⟨true, iteTE (by rw [iz_le (by omega)]; omega) rfl, iteTE (by rw [iz_le (by omega)]; omega) rfl⟩
    have cc : ¬ iz ((a : Int) + k) ≤ iz w := by rw [iz_le (by omega)]; omega
    have nw : iz w + 1 = iz ((w + 1 : Nat) : Int) := by rw [show (1 : Int32) = iz 1 from rfl, iz_add]; rfl
    obtain ⟨⟨p1, p2⟩, p3, p4⟩ := hb w (by omega)
    obtain ⟨b, b1, b2⟩ := ih (w + 1) (by omega) (by omega)
    rw [iz_clampN (n := w) (by omega), iz_clampN (n := 2000 + w) (by omega), p2, p4]
    cases f1 w
    · exact ⟨b, iteFE cc (chkE rfl (by omega) (iteTE rfl (by rw [nmE, nw]; exact b1))), iteFE cc (chkE rfl (by omega) (iteTE rfl (by rw [nmE, nw]; exact b2)))⟩
    · exact ⟨false, iteFE cc (chkE rfl (by omega) (iteFE b2iT rfl)), iteFE cc (chkE rfl (by omega) (iteFE b2iT rfl))⟩
theorem succ_iz {U : XS} {V : MS} {f0 f1 : Nat → Bool} (hb : BW U V f0 f1) {N : Nat} (hN : 2000 ≤ N) {a k : Nat} (hk : a + k ≤ 1000) (l2 : Int32) : ∃ v, x_successAt N U (iz a) l2 (iz k) = some v ∧ m_succeeds N V (iz a) l2 (iz k) = some v ∧ (v = 0 ∨ v = l2 + 0 ∨ v = 0 + (12 - l2) ∨ v = l2 + (12 - l2)) := by
  obtain ⟨b, b1, b2⟩ := quiet23 hb N hk N a (by omega) (by omega)
  obtain ⟨c, c1, c2⟩ := quiet24 hb N hk N a (by omega) (by omega)
  have x1 : x_isQuiet_23 N U (iz a) (iz k) = some b := b1
  have x2 : x_isQuiet_24 N U (iz a) (iz k) = some c := c1
  have m1 : m_isFree N V 0 (iz a) (iz k) = some b := b2
  have m2 : m_isFree N V 1 (iz a) (iz k) = some c := c2
  unfold x_successAt m_succeeds
  have f : ∀ s1, x_successAt_b17 N U (iz a) l2 (iz k) s1 = some (if c then s1 + (12 - l2) else s1 + 0) ∧ m_succeeds_b15 N V (iz a) l2 (iz k) s1 = some (if c then s1 + (12 - l2) else s1 + 0) := fun s1 => by
    unfold x_successAt_b17 m_succeeds_b15
    cases c
    · exact ⟨bindE x2 (iteTE rfl rfl), bindE m2 (iteTE rfl rfl)⟩
    · exact ⟨bindE x2 (iteFE b2iT rfl), bindE m2 (iteFE b2iT rfl)⟩
  cases b
  · refine ⟨_, bindE x1 (iteTE rfl (f 0).1), bindE m1 (iteTE rfl (f 0).2), ?_⟩
    cases c
    · exact Or.inl rfl
    · exact Or.inr (Or.inr (Or.inl rfl))
  · refine ⟨_, bindE x1 (iteFE b2iT (f l2).1), bindE m1 (iteFE b2iT (f l2).2), ?_⟩
    cases c
    · exact Or.inr (Or.inl rfl)
    · exact Or.inr (Or.inr (Or.inr rfl))
