/-! PLAIN LAW: the thief. Own text. -/
set_option maxRecDepth 100000
def Good (D : Nat) (q t : Nat → Int) (vis p need s : Int) : Prop := ∀ w, s ≤ w → w < s + need → ¬ Seen D q t vis p w
def Res (D : Nat) (q t : Nat → Int) (vis p need fr lim r : Int) : Prop := (fr ≤ r ∧ r ≤ lim ∧ Good D q t vis p need r ∧ ∀ s, fr ≤ s → s < r → ¬ Good D q t vis p need s) ∨ (r = -2 ∧ ∀ s, fr ≤ s → s ≤ lim → ¬ Good D q t vis p need s)
theorem Res.uniq {D : Nat} {q t : Nat → Int} {vis p need fr lim r r' : Int} (h : Res D q t vis p need fr lim r) (h' : Res D q t vis p need fr lim r') : r = r' := by
  rcases h with ⟨a1, a2, a3, a4⟩ | ⟨a1, a2⟩
  · rcases h' with ⟨b1, b2, b3, b4⟩ | ⟨b1, b2⟩
    · by_cases c : r < r'
      · exact absurd a3 (b4 r a1 c)
      · by_cases d : r' < r
        · exact absurd b3 (a4 r' b1 d)
        · omega
    · exact absurd a3 (b2 r a1 a2)
  · rcases h' with ⟨b1, b2, b3, b4⟩ | ⟨b1, b2⟩
    · exact absurd b3 (a2 r' b1 b2)
    · omega
/-- as the component goes: from dent to dent -/
theorem time_l {X T : XS} {M S : MS} {D : Nat} {q t : Nat → Int} (hf : FW X M T S D q t) (N : Nat) {vis p need fr lim : Int} (hv : 1 ≤ vis ∧ vis ≤ 9) (hp : 0 ≤ p ∧ p < 9) (hn : 1 ≤ need ∧ need ≤ 2000) (hl : 0 ≤ lim ∧ lim ≤ 100000) : ∀ (n i : Nat) (c : Int), i ≤ D → D - i < n → (fr ≤ c ∧ 0 ≤ c ∧ c ≤ 100000) → (∀ s, fr ≤ s → s < c → ¬ Good D q t vis p need s) → (∀ j, j < i → q j = p → t j + vis ≤ c) → ∃ r, x_timeFrom_b16 N T (iz p) (iz lim) (iz need) (iz vis) n (iz c) (iz i) = some (iz r) ∧ Res D q t vis p need fr lim r := by
  obtain ⟨h1, h2, h3, h4, h5, h6, h7⟩ := hf
  intro n
  induction n with
  | zero => intro i c a b; omega
  | succ n ih =>
    intro i c a b hc hb hj
    have ni : iz i + 1 = iz ((i + 1 : Nat) : Int) := by rw [show (1 : Int32) = iz 1 from rfl, iz_add]; rfl
    have fin : lim < c → x_timeFrom_b96 N T (iz lim) (iz c) = some (iz (-2)) ∧ Res D q t vis p need fr lim (-2) := fun g => by
      refine ⟨?_, Or.inr ⟨rfl, fun s s1 s2 => hb s s1 (by omega)⟩⟩
      unfold x_timeFrom_b96
      exact iteTE ((iz_lt (by omega)).mpr g) rfl
    rw [x_timeFrom_b16, h4]
    by_cases g : lim < c
    · have gg : iz lim < iz c := (iz_lt (by omega)).mpr g
      by_cases d : D ≤ i
      · exact ⟨-2, iteTE (by rw [iz_le (by omega)]; omega) (fin g).1, (fin g).2⟩
      · exact ⟨-2, iteFE (by rw [iz_le (by omega)]; omega) (iteTE gg (fin g).1), (fin g).2⟩
    have gg : ¬ iz lim < iz c := fun z => g ((iz_lt (by omega)).mp z)
    by_cases d : D ≤ i
    · refine ⟨c, iteTE (by rw [iz_le (by omega)]; omega) ?_, Or.inl ⟨hc.1, by omega, fun w w1 w2 ⟨j, j1, j2, j3, j4⟩ => ?_, hb⟩⟩
      · unfold x_timeFrom_b96
        exact iteFE gg rfl
      · have := hj j (by omega) j2; omega
    have dd : ¬ iz D ≤ iz i := by rw [iz_le (by omega)]; omega
    obtain ⟨⟨a1, a2⟩, -, a3, a4⟩ := h6 i (by omega)
    have n9 : q i ≤ 2147483647 := by
      have := mi_R M 0; omega
    simp only [nmE]
    rw [iz_clampN (by omega), a1, a2, ni, iz_add, iz_add]
    by_cases e : q i = p
    · have ee : iz (q i) = iz p := by rw [e]
      by_cases f : c < t i + vis
      · have ff : iz c < iz (t i + vis) := (iz_lt (by omega)).mpr f
        by_cases k : t i < c + need
        · obtain ⟨r, r1, r2⟩ := ih (i + 1) (t i + vis) (by omega) (by omega) (by omega) (fun s s1 s2 hg => by
            by_cases z : s < c
            · exact hb s s1 z hg
            · exact hg (max s (t i)) (by omega) (by omega) ⟨i, by omega, e, by omega, by omega⟩) (fun j hj1 hj2 => by
            by_cases z : j = i
            · subst z; omega
            · have := hj j (by omega) hj2; omega)
          exact ⟨r, iteFE dd (iteFE gg (chkE rfl (by omega) (iteTE ee (chkE rfl (by omega) (iteTE ff (chkE rfl (by omega) (iteTE ((iz_lt (by omega)).mpr k) (chkE rfl (by omega) r1)))))))), r2⟩
        · refine ⟨c, iteFE dd (iteFE gg (chkE rfl (by omega) (iteTE ee (chkE rfl (by omega) (iteTE ff (chkE rfl (by omega) (iteFE (fun z => k ((iz_lt (by omega)).mp z)) rfl))))))), Or.inl ⟨hc.1, by omega, fun w w1 w2 ⟨j, j1, j2, j3, j4⟩ => ?_, hb⟩⟩
          by_cases z : j < i
          · have := hj j z j2; omega
          · have := h7 i j (by omega) j1; omega
      · obtain ⟨r, r1, r2⟩ := ih (i + 1) c (by omega) (by omega) hc hb (fun j hj1 hj2 => by
          by_cases z : j = i
          · subst z; omega
          · exact hj j (by omega) hj2)
        exact ⟨r, iteFE dd (iteFE gg (chkE rfl (by omega) (iteTE ee (chkE rfl (by omega) (iteFE (fun z => f ((iz_lt (by omega)).mp z)) r1))))), r2⟩
    · obtain ⟨r, r1, r2⟩ := ih (i + 1) c (by omega) (by omega) hc hb (fun j hj1 hj2 => by
        by_cases z : j = i
        · subst z; exact absurd hj2 e
        · exact hj j (by omega) hj2)
      exact ⟨r, iteFE dd (iteFE gg (chkE rfl (by omega) (iteFE (by rw [iz_eq (by omega)]; exact e) r1))), r2⟩
theorem time_iz {X T : XS} {M S : MS} {D : Nat} {q t : Nat → Int} (h : R X M) (hf : FW X M T S D q t) {N : Nat} (hN : 20000 ≤ N) {p need fr lim : Int} (hp : 0 ≤ p ∧ p < 9) (hn : 1 ≤ need ∧ need ≤ 2000) (hl : 0 ≤ lim ∧ lim ≤ 100000) (hfr : 0 ≤ fr ∧ fr ≤ 100000) : ∃ r, x_timeFrom N T (iz p) (iz fr) (iz lim) (iz need) = some (iz r) ∧ Res D q t (max 1 (ma M 5 3)) p need fr lim r := by
  have hs := h.1.2.2.1.2.2.2
  have D4 := hf.2.2.1
  unfold x_timeFrom
  rw [nmE, show T.1 5 = iz (ma M 5 3) from (h.scr hf.1 (sm.rf M)).1.2.1.2.2.2, show (1 : Int32) = iz 1 from rfl, jmax_iz (by omega)]
  exact time_l hf N (by omega) hp hn hl N 0 fr (by omega) (by omega) (by omega) (fun s s1 s2 => by omega) (fun j hj => absurd hj (by omega))
/-- as the reference goes: from minute to minute -/
theorem thief_l {X : XS} {A M V : MS} {D : Nat} {q t : Nat → Int} (hR : R X M) (h : VW A M V D q t) (hl : ∀ b u : Nat, b < 9 → u < 2000 → LD D q t b u (ma V 49 (2000 * b + u))) (N : Nat) {p need fr : Int} (hp : 0 ≤ p ∧ p < 9) (hn : 1 ≤ need ∧ need ≤ 99) (hfr : 0 ≤ fr ∧ fr ≤ 999) : ∀ (n : Nat) (c m : Int), (0 ≤ c ∧ c < need) → (fr ≤ m - c ∧ m ≤ 1200) → 1200 - m < n → (∀ w, m - c ≤ w → w < m → ¬ Seen D q t (max 1 (ma M 5 3)) p w) → (∀ s, fr ≤ s → s < m - c → ¬ Good D q t (max 1 (ma M 5 3)) p need s) → ∃ r, m_thiefAt_b6 N V (iz p) (iz need) n (iz c) (iz m) = some (iz r) ∧ Res D q t (max 1 (ma M 5 3)) p need fr 999 r := by
  intro n
  induction n with
  | zero => intro c m h1 h2 h3; omega
  | succ n ih =>
    intro c m h1 h2 h3 hu hb
    have nm1 : iz m + 1 = iz (m + 1) := by rw [show (1 : Int32) = iz 1 from rfl, iz_add]
    have nc1 : iz c + 1 = iz (c + 1) := by rw [show (1 : Int32) = iz 1 from rfl, iz_add]
    rw [m_thiefAt_b6, show (999 : Int32) = iz 999 from rfl, iz_add]
    by_cases g : 999 + need ≤ m
    · exact ⟨-2, iteTE ((iz_le (by omega)).mpr g) rfl, Or.inr ⟨rfl, fun s s1 s2 => hb s s1 (by omega)⟩⟩
    have gg : ¬ iz (999 + need) ≤ iz m := fun z => g ((iz_le (by omega)).mp z)
    obtain ⟨b, b1, b2⟩ := m_seen (T := X) hR h hl (p := p) (w := m) hp (by omega)
    cases b
    · have ns : ¬ Seen D q t (max 1 (ma M 5 3)) p m := fun z => absurd (b2.mpr z) (by decide)
      by_cases k : c + 1 = need
      · refine ⟨m - need + 1, iteFE gg (bindE b1 (iteTE rfl ?_)), Or.inl ⟨by omega, by omega, fun w w1 w2 => ?_, fun s s1 s2 => hb s s1 (by omega)⟩⟩
        · unfold m_thiefAt_b34
          refine iteTE (by rw [nc1, k]) ?_
          rw [iz_sub, show (1 : Int32) = iz 1 from rfl, iz_add]
        · by_cases z : w = m
          · rw [z]; exact ns
          · exact hu w (by omega) (by omega)
      · obtain ⟨r, r1, r2⟩ := ih (c + 1) (m + 1) (by omega) (by omega) (by omega) (fun w w1 w2 => by
          by_cases z : w = m
          · rw [z]; exact ns
          · exact hu w (by omega) (by omega)) (fun s s1 s2 => hb s s1 (by omega))
        refine ⟨r, iteFE gg (bindE b1 (iteTE rfl ?_)), r2⟩
        unfold m_thiefAt_b34
        refine iteFE (by rw [nc1, iz_eq (by omega)]; exact k) ?_
        rw [nmE, nc1, nm1]
        exact r1
    · have ns : Seen D q t (max 1 (ma M 5 3)) p m := b2.mp rfl
      obtain ⟨r, r1, r2⟩ := ih 0 (m + 1) (by omega) (by omega) (by omega) (fun w w1 w2 => by omega) (fun s s1 s2 hg => by
        by_cases z : s < m - c
        · exact hb s s1 z hg
        · exact hg m (by omega) (by omega) ns)
      refine ⟨r, iteFE gg (bindE b1 (iteFE b2iT ?_)), r2⟩
      unfold m_thiefAt_b34
      refine iteFE (by rw [show (0 : Int32) = iz 0 from rfl, iz_eq (by omega)]; omega) ?_
      rw [nmE, nm1]
      exact r1
theorem law_thief {X : XS} {M : MS} (h : R X M) {N : Nat} (hN : 20000 ≤ N) (p w v u : Int32) : same (x_thief N X p w v u) (m_thief N M p w v u) := by
  obtain ⟨z, hz, rfl⟩ := izE p
  obtain ⟨r, hr, rfl⟩ := izE w
  obtain ⟨f, hf, rfl⟩ := izE v
  obtain ⟨k, hk, rfl⟩ := izE u
  have n9 := h.1.1.2
  unfold x_thief m_thief
  by_cases c : ¬ (0 ≤ z ∧ z ≤ 5)
  · exact ⟨_, _, _, bindE (shelfF hz c) (iteTE rfl rfl), bindE (shelfF hz c) (iteTE rfl rfl), h⟩
  replace c := Decidable.not_not.mp c
  have w1 := x_isPost_iz h.1.1.1 h.1.1.2 hr
  have w2 := m_isPost_iz (M := M) h.1.1.2 hr
  by_cases cp : ¬ (0 ≤ r ∧ r < mi M 0)
  · rw [decide_eq_false cp] at w1 w2
    exact ⟨_, _, _, bindE (shelfT c) (iteFE b2iT (bindE w1 (iteTE rfl rfl))), bindE (shelfT c) (iteFE b2iT (bindE w2 (iteTE rfl rfl))), h⟩
  replace cp := Decidable.not_not.mp cp
  rw [decide_eq_true cp] at w1 w2
  have f1 := x_isMinute_iz hf
  have f2 := m_isMinute_iz hf
  by_cases cf : ¬ (0 ≤ f ∧ f ≤ 999)
  · rw [decide_eq_false cf] at f1 f2
    exact ⟨_, _, _, bindE (shelfT c) (iteFE b2iT (bindE w1 (iteFE b2iT (bindE f1 (iteTE rfl rfl))))), bindE (shelfT c) (iteFE b2iT (bindE w2 (iteFE b2iT (bindE f2 (iteTE rfl rfl))))), h⟩
  replace cf := Decidable.not_not.mp cf
  rw [decide_eq_true cf] at f1 f2
  have k2 : m_within (iz k) 1 99 = some (decide (1 ≤ k ∧ k ≤ 99)) := by rw [show (1 : Int32) = iz 1 from rfl, show (99 : Int32) = iz 99 from rfl, m_within_iz (by omega)]
  have k1 : x_areNeeded (iz k) = some (decide (1 ≤ k ∧ k ≤ 99)) := by
    unfold x_areNeeded
    exact bindE k2 rfl
  by_cases ck : ¬ (1 ≤ k ∧ k ≤ 99)
  · rw [decide_eq_false ck] at k1 k2
    exact ⟨_, _, _, bindE (shelfT c) (iteFE b2iT (bindE w1 (iteFE b2iT (bindE f1 (iteFE b2iT (bindE k1 (iteTE rfl rfl))))))), bindE (shelfT c) (iteFE b2iT (bindE w2 (iteFE b2iT (bindE f2 (iteFE b2iT (bindE k2 (iteTE rfl rfl))))))), h⟩
  replace ck := Decidable.not_not.mp ck
  rw [decide_eq_true ck] at k1 k2
  obtain ⟨s, rfl⟩ : ∃ s : Nat, z = s := ⟨z.toNat, by omega⟩
  rcases lay_forth h (N := N) (by omega) (s := s) (by omega) with ⟨e, he, l1, l2⟩ | ⟨T, S, V, D, q, t, l1, l2, l3, l4, l5⟩
  · have ne : ¬ (0 : Int32) ≤ iz e := by rw [show (0 : Int32) = iz 0 from rfl, iz_le (by omega)]; omega
    exact ⟨_, _, _, bindE (shelfT c) (iteFE b2iT (bindE w1 (iteFE b2iT (bindE f1 (iteFE b2iT (bindE k1 (iteFE b2iT (b2E l1 (iteFE ne rfl))))))))), bindE (shelfT c) (iteFE b2iT (bindE w2 (iteFE b2iT (bindE f2 (iteFE b2iT (bindE k2 (iteFE b2iT (bindE l2 (iteFE ne rfl))))))))), h.scr ((xs.rf X).setI rfl _) (sm.rf M)⟩
  obtain ⟨W, o1, o2, o3⟩ := looks_iz h l5 hN l4
  obtain ⟨r1, a1, a2⟩ := time_iz h l5 hN (p := r) (need := k) (fr := f) (lim := 999) (by omega) (by omega) (by omega) (by omega)
  obtain ⟨r2, b1, b2⟩ := thief_l h o2 o3 N (p := r) (need := k) (fr := f) (by omega) ck cf N 0 f (by omega) (by omega) (by omega) (fun w w1 w2 => by omega) (fun s s1 s2 => by omega)
  obtain rfl := a2.uniq b2
  have mt : m_thiefAt N W (iz r) (iz f) (iz k) = some (iz r1) := b1
  exact ⟨iz r1, T, W, bindE (shelfT c) (iteFE b2iT (bindE w1 (iteFE b2iT (bindE f1 (iteFE b2iT (bindE k1 (iteFE b2iT (b2E l1 (iteTE (by decide) (bindE a1 rfl)))))))))), bindE (shelfT c) (iteFE b2iT (bindE w2 (iteFE b2iT (bindE f2 (iteFE b2iT (bindE k2 (iteFE b2iT (bindE l2 (iteTE (by decide) (bindE l3 (bindE o1 (bindE mt rfl)))))))))))), h.scr l5.1 o2.1⟩
