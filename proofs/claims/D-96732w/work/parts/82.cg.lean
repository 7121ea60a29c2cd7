/-! PLAIN LAW: what is kept. Own text. -/
set_option maxRecDepth 100000
theorem ma_cg {M M' : MS} {k : Nat} (h : M'.2.1 k = M.2.1 k) (j : Nat) : ma M' k j = ma M k j := by unfold ma; rw [h]
theorem mi_cg {M M' : MS} {k : Nat} (h : M'.1 k = M.1 k) : mi M' k = mi M k := by unfold mi; rw [h]
theorem RP.cg {X X' : XS} {M M' : MS} (h : RP X M) (e1 : X'.1 1 = X.1 1) (e2 : X'.1 2 = X.1 2) (e3 : X'.1 3 = X.1 3) (e4 : X'.1 4 = X.1 4) (e5 : X'.1 5 = X.1 5) (er : X'.2.2.1 0 = X.2.2.1 0) (eo : ∀ (a : Nat) (o : XO), X.2.2.2 a = some o → o.1 = 3 → X'.2.2.2 a = some o) (m0 : M'.1 0 = M.1 0) (m1 : M'.2.1 1 = M.2.1 1) (m2 : M'.2.1 2 = M.2.1 2) (m3 : M'.2.1 3 = M.2.1 3) (m4 : M'.2.1 4 = M.2.1 4) (m5 : M'.2.1 5 = M.2.1 5) (m26 : M'.2.1 26 = M.2.1 26) : RP X' M' := by
  obtain ⟨h1, h2, h3, h4, h5, h6, h7⟩ := h
  unfold RP
  simp only [e1, e2, e3, e4, e5, er, mi_cg m0, ma_cg m1, ma_cg m2, ma_cg m3, ma_cg m4, ma_cg m5, ma_cg m26]
  refine ⟨h1, h2, h3, fun p hp => ?_, h5, h6, h7⟩
  obtain ⟨a, o, q1, q2, q3, q4⟩ := h4 p hp
  exact ⟨a, o, q1, eo a o q2 q3, q3, q4⟩
theorem okCh.up {n n' c w v : Int} (h : okCh n c w v) (hn : n ≤ n') : okCh n' c w v := ⟨h.1, fun q => ⟨(h.2.1 q).1, by have := (h.2.1 q).2; omega⟩, h.2.2⟩
theorem RC.cg {X X' : XS} {M M' : MS} (h : RC X M) (e7 : X'.1 7 = X.1 7) (e8 : X'.1 8 = X.1 8) (er : X'.2.2.1 6 = X.2.2.1 6) (eo : ∀ (a : Nat) (o : XO), X.2.2.2 a = some o → o.1 = 4 → X'.2.2.2 a = some o) (m0 : mi M 0 ≤ mi M' 0) (m34 : M'.1 34 = M.1 34) (m35 : M'.1 35 = M.1 35) (m36 : M'.2.1 36 = M.2.1 36) : RC X' M' := by
  obtain ⟨h1, h2, h3, h4⟩ := h
  unfold RC
  simp only [e7, e8, er, mi_cg m34, mi_cg m35, ma_cg m36]
  refine ⟨h1, h2, fun k hk => ?_, fun k hk => ⟨(h4 k hk).1.up m0, (h4 k hk).2.up m0⟩⟩
  obtain ⟨a, o, q1, q2, q3, q4⟩ := h3 k hk
  exact ⟨a, o, q1, eo a o q2 q3, q3, q4⟩
theorem RT.cg {X X' : XS} {M M' : MS} (h : RT X M) (e10 : X'.1 10 = X.1 10) (e9 : X'.2.1 9 = X.2.1 9) (m6 : M'.1 6 = M.1 6) (m7 : M'.2.1 7 = M.2.1 7) : RT X' M' := by
  unfold RT at h ⊢
  simp only [e10, e9, mi_cg m6, ma_cg m7, m7]
  exact h
theorem nodeR.cg {X X' : XS} (eo : ∀ (a : Nat) (o : XO), X.2.2.2 a = some o → (o.1 = 8 ∨ o.1 = 9 ∨ o.1 = 10 ∨ o.1 = 11 ∨ o.1 = 12) → X'.2.2.2 a = some o) : ∀ (d a : Nat) (c : List Int), nodeR X d a c → nodeR X' d a c := by
  intro d
  induction d with
  | zero => intro a c h; exact h
  | succ d ih =>
    intro a c h
    obtain ⟨o, ho, h⟩ := h
    refine ⟨o, ?_, ?_⟩
    · refine eo a o ho ?_
      rcases h with h | h | h | h | h
      · exact Or.inl h.1
      · exact Or.inr (Or.inr (Or.inr (Or.inl h.1)))
      · exact Or.inr (Or.inl h.1)
      · exact Or.inr (Or.inr (Or.inl h.1))
      · exact Or.inr (Or.inr (Or.inr (Or.inr h.1)))
    · rcases h with h | h | ⟨t, b, c1, q1, q2, q3⟩ | ⟨t, b, c1, q1, q2, q3⟩ | ⟨t, b1, b2, c1, c2, k, k1, k2, q1, q2, q3, q4, q5, q6⟩
      · exact Or.inl h
      · exact Or.inr (Or.inl h)
      · exact Or.inr (Or.inr (Or.inl ⟨t, b, c1, q1, ih _ _ q2, q3⟩))
      · exact Or.inr (Or.inr (Or.inr (Or.inl ⟨t, b, c1, q1, ih _ _ q2, q3⟩)))
      · exact Or.inr (Or.inr (Or.inr (Or.inr ⟨t, b1, b2, c1, c2, k, k1, k2, q1, q2, q3, ih _ _ q4, ih _ _ q5, q6⟩)))
theorem codeSl.cg {M M' : MS} {i j : Int} {c : List Int} (h : codeSl M i j c) (m13 : M'.2.1 13 = M.2.1 13) : codeSl M' i j c := ⟨h.1, fun k hk => by rw [ma_cg m13]; exact h.2 k hk⟩
theorem linesR.cg {X X' : XS} {M M' : MS} (eo : ∀ (a : Nat) (o : XO), X.2.2.2 a = some o → (o.1 = 6 ∨ o.1 = 8 ∨ o.1 = 9 ∨ o.1 = 10 ∨ o.1 = 11 ∨ o.1 = 12) → X'.2.2.2 a = some o) (m10 : M'.2.1 10 = M.2.1 10) (m11 : M'.2.1 11 = M.2.1 11) (m12 : M'.2.1 12 = M.2.1 12) (m13 : M'.2.1 13 = M.2.1 13) : ∀ (n i : Nat) (e : Option Nat), linesR X M n i e → linesR X' M' n i e := by
  intro n
  have en := nodeR.cg (X := X) (X' := X') (fun a o h1 h2 => eo a o h1 (Or.inr h2))
  induction n with
  | zero => intro i e h; exact h
  | succ n ih =>
    intro i e h
    obtain ⟨a, o, h1, h2, h3, h4, ⟨g, c, g1, g2, g3⟩, h6, h7⟩ := h
    refine ⟨a, o, h1, eo a o h2 (Or.inl h3), h3, by rw [ma_cg m10, ma_cg m12]; exact h4, ⟨g, c, g1, en _ _ _ g2, by rw [ma_cg m11, ma_cg m12]; exact g3.cg m13⟩, ?_, ih _ _ h7⟩
    rw [ma_cg m10, ma_cg m11]
    rcases h6 with h6 | ⟨t, c, t1, t2, t3, t4⟩
    · exact Or.inl h6
    · exact Or.inr ⟨t, c, t1, en _ _ _ t2, t3.cg m13, t4⟩
theorem RL.cg {X X' : XS} {M M' : MS} (h : RL X M) (er : X'.2.2.1 11 = X.2.2.1 11) (eo : ∀ (a : Nat) (o : XO), X.2.2.2 a = some o → (o.1 = 6 ∨ o.1 = 8 ∨ o.1 = 9 ∨ o.1 = 10 ∨ o.1 = 11 ∨ o.1 = 12) → X'.2.2.2 a = some o) (m8 : M'.1 8 = M.1 8) (m9 : M'.1 9 = M.1 9) (m10 : M'.2.1 10 = M.2.1 10) (m11 : M'.2.1 11 = M.2.1 11) (m12 : M'.2.1 12 = M.2.1 12) (m13 : M'.2.1 13 = M.2.1 13) : RL X' M' := by
  unfold RL at h ⊢
  simp only [er, mi_cg m9, m8]
  rcases h with h | ⟨h1, h2, h3, h4⟩
  · exact Or.inl h
  · exact Or.inr ⟨h1, h2, h3, linesR.cg eo m10 m11 m12 m13 _ _ _ h4⟩
theorem RA.cg {X X' : XS} {M M' : MS} (h : RA X M) (e29 : X'.1 29 = X.1 29) (e30 : X'.1 30 = X.1 30) (e31 : X'.1 31 = X.1 31) (e32 : X'.1 32 = X.1 32) (e33 : X'.1 33 = X.1 33) (e34 : X'.1 34 = X.1 34) (m0 : mi M 0 ≤ mi M' 0) (m24 : M'.1 24 = M.1 24) (m25 : M'.1 25 = M.1 25) (m27 : M'.2.1 27 = M.2.1 27) : RA X' M' := by
  unfold RA at h ⊢
  simp only [e29, e30, e31, e32, e33, e34, mi_cg m24, mi_cg m25, m27]
  exact ⟨⟨h.1.1, h.1.2.1, by have := h.1.2.2; omega⟩, h.2⟩
theorem RI.cg {X X' : XS} {M M' : MS} (h : RI X M) (e35 : X'.1 35 = X.1 35) (e37 : X'.1 37 = X.1 37) (e38 : X'.1 38 = X.1 38) (e39 : X'.1 39 = X.1 39) (e40 : X'.1 40 = X.1 40) (e41 : X'.1 41 = X.1 41) (e42 : X'.1 42 = X.1 42) (e43 : X'.1 43 = X.1 43) (a36 : X'.2.1 36 = X.2.1 36) (m0 : mi M 0 ≤ mi M' 0) (m28 : M'.1 28 = M.1 28) (m29 : M'.1 29 = M.1 29) (m30 : M'.1 30 = M.1 30) (m31 : M'.1 31 = M.1 31) (m32 : M'.2.1 32 = M.2.1 32) (m33 : M'.2.1 33 = M.2.1 33) : RI X' M' := by
  unfold RI at h ⊢
  simp only [e35, e37, e38, e39, e40, e41, e42, e43, a36, m28, mi_cg m29, mi_cg m30, mi_cg m31, m32, m33]
  refine ⟨h.1, fun q => ?_⟩
  obtain ⟨⟨a1, a2, a3⟩, ⟨b1, b2, b3⟩, c⟩ := h.2 q
  exact ⟨⟨a1, a2, by omega⟩, ⟨b1, b2, by omega⟩, c⟩
theorem RK.cg {X X' : XS} {M M' : MS} (h : RK X M) (e44 : X'.1 44 = X.1 44) (a45 : X'.2.1 45 = X.2.1 45) (m39 : M'.1 39 = M.1 39) (m40 : M'.2.1 40 = M.2.1 40) : RK X' M' := by
  unfold RK at h ⊢
  simp only [e44, a45, mi_cg m39, m40]
  exact h
theorem RB.cg {X X' : XS} {M M' : MS} (h : RB X M) (e47 : X'.1 47 = X.1 47) (er : X'.2.2.1 46 = X.2.2.1 46) (eo : ∀ (a : Nat) (o : XO), X.2.2.2 a = some o → 14 ≤ o.1 ∧ o.1 ≤ 21 → X'.2.2.2 a = some o) (m37 : M'.1 37 = M.1 37) (m38 : M'.2.1 38 = M.2.1 38) : RB X' M' := by
  obtain ⟨h1, h2⟩ := h
  unfold RB
  simp only [e47, er, mi_cg m37, ma_cg m38]
  refine ⟨h1, fun b hb => ?_⟩
  obtain ⟨a, o, q1, q2, q3, q4, q5⟩ := h2 b hb
  exact ⟨a, o, q1, eo a o q2 (by omega), q3, q4, q5⟩
theorem getO_tag {S : XS} {a t : Nat} {x : XO} (h : getO S a t = some x) : S.2.2.2 a = some x ∧ x.1 = t := getO_some h
theorem rowZ_mk {S : XS} {a t b : Nat} {x z : XO} (h1 : S.2.2.2 a = some x) (h2 : x.1 = t) (h3 : x.2.2.1 0 = some b) (h4 : S.2.2.2 b = some z) (h5 : z.1 = t + 7) (h6 : ∀ j, j < z.2.2.2.1 → fitE t (z.2.2.2.2.1 j) = true) : rowZ S a t = some (b, z) := by
  unfold rowZ
  rw [getO_eq h1 h2, Option.bind_some, h3, Option.bind_some, getO_eq h4 h5, Option.bind_some, if_pos h6]
theorem rowZ_ex {S : XS} {a t b : Nat} {z : XO} (h : rowZ S a t = some (b, z)) : ∃ x : XO, S.2.2.2 a = some x ∧ x.1 = t ∧ x.2.2.1 0 = some b ∧ S.2.2.2 b = some z ∧ z.1 = t + 7 := by
  obtain ⟨x, h1, h2, h3⟩ := rowZ_some h
  exact ⟨x, (getO_some h1).1, (getO_some h1).2, h2, (getO_some h3).1, (getO_some h3).2⟩
/-- what is kept of objects: those of the tags that t says, and none of them is new -/
theorem rowZ.cg {X X' : XS} (eo : ∀ (a : Nat) (o : XO), X.2.2.2 a = some o → 23 ≤ o.1 → X'.2.2.2 a = some o) {a t b : Nat} {z : XO} (ht : 23 ≤ t) (h : rowZ X a t = some (b, z)) : rowZ X' a t = some (b, z) := by
  obtain ⟨x, h1, h2, h3, h4, h5⟩ := rowZ_ex h
  exact rowZ_mk (eo a x h1 (by omega)) h2 h3 (eo b z h4 (by omega)) h5 (rowZ_fit h)
theorem shR.row {X : XS} {M : MS} {s h : Nat} (hs : shR X M s) (he : ma M 41 s = h) (h4 : h ≤ 4) : ∃ (a b : Nat) (z : XO), X.2.2.1 48 s = some a ∧ rowZ X a (23 + h) = some (b, z) ∧ ma M 42 s = z.2.2.2.1 ∧ z.2.2.2.1 ≤ 60 ∧ ∀ j : Nat, j < z.2.2.2.1 → rAt (23 + h) z j = M.2.2 (60 * s + j) := by
  rcases hs with ⟨h1, -⟩ | ⟨b, h1, -⟩ | ⟨h', a, b, z, h1, h2, h3, h5, h6⟩
  · omega
  · omega
  · have e : h' = h := by omega
    subst e
    exact ⟨a, b, z, h3, h5, h6⟩
theorem RS.cg {X X' : XS} {M M' : MS} (h : RS X M) (er : X'.2.2.1 48 = X.2.2.1 48) (er2 : X'.2.2.1 46 = X.2.2.1 46) (eo : ∀ (a : Nat) (o : XO), X.2.2.2 a = some o → 23 ≤ o.1 → X'.2.2.2 a = some o) (m37 : M'.1 37 = M.1 37) (m41 : M'.2.1 41 = M.2.1 41) (m42 : M'.2.1 42 = M.2.1 42) (ml : M'.2.2 = M.2.2) : RS X' M' := by
  obtain ⟨h1, h2⟩ := h
  constructor
  · intro s hs
    unfold shR
    simp only [er, er2, mi_cg m37, ma_cg m41, ma_cg m42, ml]
    rcases h1 s hs with q | q | ⟨k, a, b, z, q1, q2, q3, q4, q5⟩
    · exact Or.inl q
    · exact Or.inr (Or.inl q)
    · exact Or.inr (Or.inr ⟨k, a, b, z, q1, q2, q3, rowZ.cg eo (by omega) q4, q5⟩)
  · intro s s' k k' a a' b b' z z' g1 g2 g3 g4 g5 g6 g7 g8 g9 g10 g11
    rw [ma_cg m41] at g4 g6
    rw [er] at g8 g9
    obtain ⟨a0, b0, z0, c1, c2, -⟩ := (h1 s g1).row g4 g5
    obtain ⟨a1, b1, z1, d1, d2, -⟩ := (h1 s' g2).row g6 g7
    rw [g8] at c1
    rw [g9] at d1
    cases c1
    cases d1
    have e1 := rowZ.cg eo (by omega) c2
    have e2 := rowZ.cg eo (by omega) d2
    rw [g10] at e1
    rw [g11] at e2
    cases e1
    cases e2
    exact h2 s s' k k' a a' b b' z z' g1 g2 g3 g4 g5 g6 g7 g8 g9 c2 d2
/-- scratch is no matter -/
theorem R.scr {X X' : XS} {M M' : MS} (h : R X M) (hx : xs X X') (hm : sm M M') : R X' M' := by
  obtain ⟨h1, h2, h3, h4, h5, h6, h7, h8, h9⟩ := h
  have hr : X'.2.2.1 = X.2.2.1 := by rw [hx.1]
  have ho : X'.2.2.2 = X.2.2.2 := by rw [hx.1]
  have eo : ∀ (a : Nat) (o : XO), X.2.2.2 a = some o → X'.2.2.2 a = some o := fun a o q => by rw [ho]; exact q
  have e : ∀ k, scrI k = false → X'.1 k = X.1 k := hx.2.1
  have ea : ∀ k, scrA k = false → X'.2.1 k = X.2.1 k := hx.2.2
  have m : ∀ k, smI k = false → M'.1 k = M.1 k := hm.2.1
  have n : ∀ k, smA k = false → M'.2.1 k = M.2.1 k := hm.2.2
  have m0 : mi M 0 ≤ mi M' 0 := by rw [mi_cg (m 0 rfl)]; omega
  refine ⟨?_, ?_, ?_, ?_, ?_, ?_, ?_, ?_, ?_⟩
  · exact h1.cg (e 1 rfl) (e 2 rfl) (e 3 rfl) (e 4 rfl) (e 5 rfl) (by rw [hr]) (fun a o q _ => eo a o q) (m 0 rfl) (n 1 rfl) (n 2 rfl) (n 3 rfl) (n 4 rfl) (n 5 rfl) (n 26 rfl)
  · exact h2.cg (e 7 rfl) (e 8 rfl) (by rw [hr]) (fun a o q _ => eo a o q) m0 (m 34 rfl) (m 35 rfl) (n 36 rfl)
  · exact h3.cg (e 10 rfl) (ea 9 rfl) (m 6 rfl) (n 7 rfl)
  · exact h4.cg (by rw [hr]) (fun a o q _ => eo a o q) (m 8 rfl) (m 9 rfl) (n 10 rfl) (n 11 rfl) (n 12 rfl) (n 13 rfl)
  · exact h5.cg (e 29 rfl) (e 30 rfl) (e 31 rfl) (e 32 rfl) (e 33 rfl) (e 34 rfl) m0 (m 24 rfl) (m 25 rfl) (n 27 rfl)
  · exact h6.cg (e 35 rfl) (e 37 rfl) (e 38 rfl) (e 39 rfl) (e 40 rfl) (e 41 rfl) (e 42 rfl) (e 43 rfl) (ea 36 rfl) m0 (m 28 rfl) (m 29 rfl) (m 30 rfl) (m 31 rfl) (n 32 rfl) (n 33 rfl)
  · exact h7.cg (e 44 rfl) (ea 45 rfl) (m 39 rfl) (n 40 rfl)
  · exact h8.cg (e 47 rfl) (by rw [hr]) (fun a o q _ => eo a o q) (m 37 rfl) (n 38 rfl)
  · exact h9.cg (by rw [hr]) (by rw [hr]) (fun a o q _ => eo a o q) (m 37 rfl) (n 41 rfl) (n 42 rfl) hm.1
