/-! PLAIN LAW: safe. Own text. -/
set_option maxRecDepth 100000
theorem thief_iz {X : XS} {A M V : MS} {D : Nat} {q t : Nat → Int} (hR : R X M) (h : VW A M V D q t) (hl : ∀ b u : Nat, b < 9 → u < 2000 → LD D q t b u (ma V 49 (2000 * b + u))) {N : Nat} (hN : 20000 ≤ N) {p need fr : Int} (hp : 0 ≤ p ∧ p < 9) (hn : 1 ≤ need ∧ need ≤ 99) (hfr : 0 ≤ fr ∧ fr ≤ 999) : ∃ r, m_thiefAt N V (iz p) (iz fr) (iz need) = some (iz r) ∧ Res D q t (max 1 (ma M 5 3)) p need fr 999 r :=
  thief_l hR h hl N hp hn hfr N 0 fr (by omega) (by omega) (by omega) (fun w w1 w2 => by omega) (fun s s1 s2 => by omega)
theorem safe_l {X T : XS} {A M W V : MS} {D : Nat} {q t : Nat → Int} (h : R X M) (hf : FW X M T W D q t) (hv : VW A M V D q t) (hl : ∀ b u : Nat, b < 9 → u < 2000 → LD D q t b u (ma V 49 (2000 * b + u))) {N : Nat} (hN : 20000 ≤ N) {need : Int} (hn : 1 ≤ need ∧ need ≤ 99) : ∀ (n i : Nat) (l4 : Int32), (i : Int) ≤ mi M 0 → mi M 0 - i < n → ∃ v, x_safe_b34 N (iz need) n T l4 (iz i) = some (v, T) ∧ m_safe_b47 N (iz need) n V l4 (iz i) = some (v, V) := by
  intro n
  induction n with
  | zero => intro i l4 h1 h2; omega
  | succ n ih =>
    intro i l4 h1 h2
    have n9 := h.1.1.2
    have hP := (h.scr hf.1 (sm.rf M)).1
    have s0 : V.1 0 = iz (mi M 0) := by rw [hv.1.2.1 0 rfl, mi_eq]
    have ni : iz i + 1 = iz ((i + 1 : Nat) : Int) := by rw [show (1 : Int32) = iz 1 from rfl, iz_add]; rfl
    rw [x_safe_b34, m_safe_b47, hP.1.1, s0]
    by_cases c : mi M 0 ≤ i
    · exact ⟨l4, iteTE ((iz_le (by omega)).mpr c) rfl, iteTE ((iz_le (by omega)).mpr c) rfl⟩
    have cc : ¬ iz (mi M 0) ≤ iz i := fun z => c ((iz_le (by omega)).mp z)
    obtain ⟨r, a1, a2⟩ := time_iz h hf hN (p := i) (need := need) (fr := 0) (lim := 999) (by omega) (by omega) (by omega) (by omega)
    obtain ⟨r2, b1, b2⟩ := thief_iz h hv hl hN (p := i) (need := need) (fr := 0) (by omega) hn (by omega)
    obtain rfl := a2.uniq b2
    have rr : -2 ≤ r ∧ r ≤ 999 := by
      rcases a2 with ⟨e1, e2, _⟩ | ⟨e1, _⟩ <;> omega
    simp only [nmE]
    rw [ni]
    by_cases w : r = -2
    · obtain ⟨v, v1, v2⟩ := ih (i + 1) (l4 ||| (1 <<< (iz i &&& 31))) (by omega) (by omega)
      exact ⟨v, iteFE cc (bindE a1 (iteTE (by rw [w]; rfl) v1)), iteFE cc (bindE b1 (iteTE (by rw [w]; rfl) v2))⟩
    · have ww : ¬ iz r = -2 := by rw [show (-2 : Int32) = iz (-2) from rfl, iz_eq (by omega)]; exact w
      obtain ⟨v, v1, v2⟩ := ih (i + 1) l4 (by omega) (by omega)
      exact ⟨v, iteFE cc (bindE a1 (iteFE ww v1)), iteFE cc (bindE b1 (iteFE ww v2))⟩
theorem law_safe {X : XS} {M : MS} (h : R X M) {N : Nat} (hN : 20000 ≤ N) (p w : Int32) : same (x_safe N X p w) (m_safe N M p w) := by
  obtain ⟨z, hz, rfl⟩ := izE p
  obtain ⟨k, hk, rfl⟩ := izE w
  have n9 := h.1.1.2
  unfold x_safe m_safe
  by_cases c : ¬ (0 ≤ z ∧ z ≤ 5)
  · exact ⟨_, _, _, bindE (shelfF hz c) (iteTE rfl rfl), bindE (shelfF hz c) (iteTE rfl rfl), h⟩
  replace c := Decidable.not_not.mp c
  have k2 : m_within (iz k) 1 99 = some (decide (1 ≤ k ∧ k ≤ 99)) := by rw [show (1 : Int32) = iz 1 from rfl, show (99 : Int32) = iz 99 from rfl, m_within_iz (by omega)]
  have k1 : x_areNeeded (iz k) = some (decide (1 ≤ k ∧ k ≤ 99)) := by
    unfold x_areNeeded
    exact bindE k2 rfl
  by_cases ck : ¬ (1 ≤ k ∧ k ≤ 99)
  · rw [decide_eq_false ck] at k1 k2
    exact ⟨_, _, _, bindE (shelfT c) (iteFE b2iT (bindE k1 (iteTE rfl rfl))), bindE (shelfT c) (iteFE b2iT (bindE k2 (iteTE rfl rfl))), h⟩
  replace ck := Decidable.not_not.mp ck
  rw [decide_eq_true ck] at k1 k2
  obtain ⟨s, rfl⟩ : ∃ s : Nat, z = s := ⟨z.toNat, by omega⟩
  rcases lay_forth h (N := N) (by omega) (s := s) (by omega) with ⟨e, he, l1, l2⟩ | ⟨T, S, V, D, q, t, l1, l2, l3, l4, l5⟩
  · have ne : ¬ (0 : Int32) ≤ iz e := by rw [show (0 : Int32) = iz 0 from rfl, iz_le (by omega)]; omega
    exact ⟨_, _, _, bindE (shelfT c) (iteFE b2iT (bindE k1 (iteFE b2iT (b2E l1 (iteFE ne rfl))))), bindE (shelfT c) (iteFE b2iT (bindE k2 (iteFE b2iT (bindE l2 (iteFE ne rfl))))), h.scr ((xs.rf X).setI rfl _) (sm.rf M)⟩
  obtain ⟨W, o1, o2, o3⟩ := looks_iz h l5 hN l4
  obtain ⟨v, v1, v2⟩ := safe_l h l5 o2 o3 hN ck N 0 0 (by omega) (by omega)
  exact ⟨v, T, W, bindE (shelfT c) (iteFE b2iT (bindE k1 (iteFE b2iT (b2E l1 (iteTE (by decide) v1))))), bindE (shelfT c) (iteFE b2iT (bindE k2 (iteFE b2iT (bindE l2 (iteTE (by decide) (bindE l3 (bindE o1 v2))))))), h.scr l5.1 o2.1⟩
