/-! PLAIN LAW: rounds, dents. Own text. -/
set_option maxRecDepth 100000
theorem dst_sm {M M' : MS} (h : sm M M') (p q : Int) : dst M' p q = dst M p q := by
  unfold dst mx my
  rw [sm_ma h (k := 5) rfl, sm_ma h (k := 5) rfl, sm_ma h (k := 5) rfl, sm_ma h (k := 1) rfl, sm_ma h (k := 2) rfl, sm_ma h (k := 1) rfl, sm_ma h (k := 2) rfl]
/-- the round read from a row, in both -/
def Rnd (X : XS) (M : MS) (T : XS) (S : MS) (L : Nat) (g : Nat → Int) : Prop := xs X T ∧ sm M S ∧ L ≤ 20 ∧ T.1 16 = iz L ∧ S.1 44 = iz L ∧ ∀ j, j < L → T.2.1 13 j = iz (g j) ∧ S.2.1 45 j = iz (g j) ∧ 0 ≤ g j ∧ g j < mi M 0
theorem read_l {X : XS} {M : MS} (h : R X M) (N : Nat) {s a b : Nat} {z : XO} (hs : s < 6) (hz : rowZ X a 23 = some (b, z)) (h42 : ma M 42 s = z.2.2.2.1) (h60 : z.2.2.2.1 ≤ 60) (hzz : ∀ j, j < z.2.2.2.1 → rAt 23 z j = M.2.2 (60 * s + j)) : ∀ (n i : Nat) (T : XS) (S : MS), i ≤ 20 → 20 - i < n → xs X T → sm M S → T.1 16 = iz i → S.1 44 = iz i → (∀ j, j < i → T.2.1 13 j = S.2.1 45 j ∧ 0 ≤ (T.2.1 13 j).toInt ∧ (T.2.1 13 j).toInt < mi M 0) → ∃ (T' : XS) (S' : MS) (L : Nat), x_layRound_b17 N a n T (iz i) = some (0, T') ∧ m_reads_b5 N (iz s) n S = some S' ∧ xs X T' ∧ sm M S' ∧ L ≤ 20 ∧ T'.1 16 = iz L ∧ S'.1 44 = iz L ∧ ∀ j, j < L → T'.2.1 13 j = S'.2.1 45 j ∧ 0 ≤ (T'.2.1 13 j).toInt ∧ (T'.2.1 13 j).toInt < mi M 0 := by
  intro n
  induction n with
  | zero => intro i T S h1 h2; omega
  | succ n ih =>
    intro i T S h1 h2 hx hm t16 s44 hj
    have hz' : rowZ T a 23 = some (b, z) := by
      rw [← hz]
      unfold rowZ getO
      rw [hx.1]
    have hP := (h.scr hx hm).1
    rw [x_layRound_b17, m_reads_b5]
    have e1 : (Int32.ofNat z.2.2.2.1 ≤ iz i) ↔ z.2.2.2.1 ≤ i := by rw [iz_nat, iz_le (by omega)]; omega
    have e20 : ((20 : Int32) ≤ iz i) ↔ 20 ≤ i := by rw [show (20 : Int32) = iz 20 from rfl, iz_le (by omega)]; omega
    have m42 : S.2.1 42 (iz s).toNatClampNeg = iz z.2.2.2.1 := by rw [iz_clampN (by omega), hm.2.2 42 rfl, ma_eq, h42]
    have e42 : (S.2.1 42 (iz s).toNatClampNeg ≤ S.1 44) ↔ z.2.2.2.1 ≤ i := by rw [m42, s44, iz_le (by omega)]; omega
    rw [s44]
    by_cases c1 : 20 ≤ i
    · by_cases c2 : z.2.2.2.1 ≤ i
      · exact ⟨T, S, i, b2E hz' (iteTE (e1.mpr c2) rfl), iteTE (e20.mpr c1) rfl, hx, hm, h1, t16, s44, hj⟩
      · exact ⟨T, S, i, b2E hz' (iteFE (fun q => c2 (e1.mp q)) (iteTE (e20.mpr c1) rfl)), iteTE (e20.mpr c1) rfl, hx, hm, h1, t16, s44, hj⟩
    have c1' : ¬ (20 : Int32) ≤ iz i := fun q => c1 (e20.mp q)
    rw [s44] at e42
    by_cases c2 : z.2.2.2.1 ≤ i
    · exact ⟨T, S, i, b2E hz' (iteTE (e1.mpr c2) rfl), iteFE c1' (chkE rfl (by omega) (iteTE (e42.mpr c2) rfl)), hx, hm, h1, t16, s44, hj⟩
    have c2x : ¬ Int32.ofNat z.2.2.2.1 ≤ iz i := fun q => c2 (e1.mp q)
    have c2m : ¬ S.2.1 42 (iz s).toNatClampNeg ≤ iz i := fun q => c2 (e42.mp q)
    obtain ⟨p, hp, ep⟩ := izE (z.2.2.2.2.1 i)
    have rz : rAt 23 z i = (iz p).toInt64 := by rw [← ep]; rfl
    have rz2 : (rAt 23 z (iz i).toNatClampNeg).toInt32 = iz p := by rw [iz_clampN (by omega), rz, Int32.toInt32_toInt64]
    have ei : (60 * iz s) + iz i = iz ((60 * s + i : Nat) : Int) := by rw [show (60 : Int32) = iz 60 from rfl, iz_mul, iz_add]; congr 1
    have sv : S.2.2 ((60 * iz s) + iz i).toNatClampNeg = (iz p).toInt64 := by rw [ei, iz_clampN (by omega), hm.1, ← hzz i (by omega), rz]
    have told : m_toldAt S (iz s) (iz i) = some (iz p) := by rw [toldAt_iz S hs (by omega), hm.1, ← hzz i (by omega), rz, Int32.toInt32_toInt64]
    have i0 : mi S 0 = mi M 0 := sm_mi hm rfl
    have px := x_isPost_iz hP.1.1 hP.1.2 hp
    have pm := m_isPost_iz (M := S) hP.1.2 hp
    by_cases c3 : ¬ (0 ≤ p ∧ p < mi S 0)
    · rw [decide_eq_false c3] at px pm
      refine ⟨T, S, i, b2E hz' (iteFE c2x (iteFE c1' (b2E hz' (chkE rfl (by omega) ?_)))), iteFE c1' (chkE rfl (by omega) (iteFE c2m (chkE ei (by omega) (bindE (by rw [sv]; exact pm) (iteTE rfl rfl))))), hx, hm, h1, t16, s44, hj⟩
      rw [nmE, rz2]
      exact bindE px (iteTE rfl rfl)
    replace c3 := Decidable.not_not.mp c3
    rw [decide_eq_true c3] at px pm
    have ni : iz i + 1 = iz ((i + 1 : Nat) : Int) := by rw [show (1 : Int32) = iz 1 from rfl, iz_add]; rfl
    obtain ⟨T', S', L, g1, g2, g⟩ := ih (i + 1) (xI (xA T 13 i (iz p)) 16 (iz ((i + 1 : Nat) : Int))) (sI (sA S 45 i (iz p)) 44 (iz ((i + 1 : Nat) : Int))) (by omega) (by omega) ((hx.setA rfl _ _).setI rfl _) ((hm.setA rfl _ _).setI rfl _) rfl rfl (fun j hj' => by
      show (xA T 13 i (iz p)).2.1 13 j = (sA S 45 i (iz p)).2.1 45 j ∧ 0 ≤ ((xA T 13 i (iz p)).2.1 13 j).toInt ∧ ((xA T 13 i (iz p)).2.1 13 j).toInt < mi M 0
      rw [xA21, sA21, if_pos rfl, if_pos rfl]
      by_cases c : j = i
      · rw [if_pos c, if_pos c, iz_toInt hp]
        exact ⟨rfl, by omega, by omega⟩
      · rw [if_neg c, if_neg c]
        exact hj j (by omega))
    refine ⟨T', S', L, b2E hz' (iteFE c2x (iteFE c1' (b2E hz' (chkE rfl (by omega) ?_)))), iteFE c1' (chkE rfl (by omega) (iteFE c2m (chkE ei (by omega) (bindE (by rw [sv]; exact pm) (iteFE b2iT (bindE told (chkE rfl (by omega) ?_))))))), g⟩
    · rw [nmE, rz2]
      refine bindE px (iteFE b2iT (chkE rfl (by omega) ?_))
      rw [nmE, nmE, nmE, iz_clampN (by omega), xA1, t16, ni]
      exact g1
    · rw [nmE, nmE, iz_clampN (by omega), sA1, s44, ni]
      exact g2
theorem lay_read {X : XS} {M : MS} (h : R X M) {N : Nat} (hN : 30 ≤ N) {s : Nat} (hs : s < 6) : (∃ c : Int, (c = -11 ∨ c = -12) ∧ x_layRound N X (iz s) = some (iz c, xI X 16 0) ∧ m_noRow M (iz s) 0 = some (iz c)) ∨ ∃ T S L g, x_layRound N X (iz s) = some (0, T) ∧ m_noRow M (iz s) 0 = some 0 ∧ m_reads N M (iz s) = some S ∧ Rnd X M T S L g := by
  have h9 := h.2.2.2.2.2.2.2.2
  have h8 := h.2.2.2.2.2.2.2.1
  have e1 := h9.1 s hs
  have ez : (iz s).toNatClampNeg = s := iz_clampN (by omega)
  have r41 := ma_R M 41 s
  have lit : ∀ k : Int, -100 ≤ k ∧ k ≤ 100 → ((M.2.1 41 (iz s).toNatClampNeg = iz k) ↔ ma M 41 s = k) := fun k hk => by rw [ez, ma_eq M 41, iz_eq (by omega)]
  unfold x_layRound m_noRow m_reads
  simp only [nmE]
  by_cases d : ma M 41 s = -1
  · refine Or.inl ⟨-11, Or.inl rfl, chkE rfl (by omega) (onlN ?_ rfl), chkE rfl (by omega) (iteTE ((lit (-1) (by omega)).mpr d) rfl)⟩
    rw [ez]
    rcases e1 with ⟨-, q⟩ | ⟨b, q, -⟩ | ⟨k, a, b, y, q1, q2, -⟩
    · exact q
    · omega
    · omega
  have nm1 : ¬ M.2.1 41 (iz s).toNatClampNeg = -1 := fun q => d ((lit (-1) (by omega)).mp q)
  by_cases d0 : ma M 41 s = 0
  · obtain ⟨a, b, y, g1, g2, g3, g4, g5⟩ := e1.row (h := 0) d0 (by omega)
    obtain ⟨x, x1, x2, -⟩ := rowZ_ex g2
    obtain ⟨T', S', L, u1, u2, u3, u4, u5, u6, u7, u8⟩ := read_l h N hs g2 g3 g4 g5 N 0 (xI X 16 0) (sI M 44 0) (by omega) (by omega) ((xs.rf X).setI rfl _) ((sm.rf M).setI rfl _) rfl rfl (fun j hj => absurd hj (by omega))
    refine Or.inr ⟨T', S', L, fun j => (T'.2.1 13 j).toInt, chkE rfl (by omega) (onlS (by rw [ez]; exact g1) (bindE x1 (iteTE x2 u1))), chkE rfl (by omega) (iteFE nm1 (chkE rfl (by omega) (iteTE ((lit 0 (by omega)).mpr d0) rfl))), u2, u3, u4, u5, u6, u7, fun j hj => ?_⟩
    obtain ⟨v1, v2⟩ := u8 j hj
    exact ⟨(iz_of _).symm, by rw [← v1]; exact (iz_of _).symm, v2⟩
  refine Or.inl ⟨-12, Or.inr rfl, ?_, chkE rfl (by omega) (iteFE nm1 (chkE rfl (by omega) (iteFE (fun q => d0 ((lit 0 (by omega)).mp q)) rfl)))⟩
  by_cases d2 : 5 ≤ ma M 41 s
  · obtain ⟨b, k, a, o, q1, q2, q3, q4, q5, q6, q7, q8, q9⟩ := e1.body h8 d2
    refine chkE rfl (by omega) (onlS (by rw [ez]; exact q4) (bindE q5 (iteFE (by omega) (iteTE ?_ rfl))))
    simp only [List.mem_cons, List.not_mem_nil]; omega
  · obtain ⟨k', k4, hk'⟩ := e1.ge.2 (by omega) (by have := e1.ge.1; omega)
    obtain ⟨a, b, y, g1, g2, g3, g4, g5⟩ := e1.row hk' k4
    obtain ⟨x, x1, x2, -⟩ := rowZ_ex g2
    refine chkE rfl (by omega) (onlS (by rw [ez]; exact g1) (bindE x1 (iteFE (by omega) (iteTE ?_ rfl))))
    simp only [List.mem_cons, List.not_mem_nil]; omega
/-- where a step of the round goes, forth or back -/
def qf (g : Nat → Int) (L : Nat) (d : Int) (k : Nat) : Int := if d = 0 then g (k % L) else g (L - 1 - k % L)
theorem goes_iz {X T : XS} {M S : MS} {L : Nat} {g : Nat → Int} (h : Rnd X M T S L g) {T' : XS} (e16 : T'.1 16 = T.1 16) (e13 : T'.2.1 13 = T.2.1 13) (hL : 1 ≤ L) {d : Int} (hd : d = 0 ∨ d = 1) {k : Nat} (hk : k ≤ 100000) : x_goesTo T' (iz k) (iz d) = some (iz (qf g L d k)) ∧ 0 ≤ qf g L d k ∧ qf g L d k < mi M 0 := by
  obtain ⟨h1, h2, h3, h4, h5, h6⟩ := h
  have kl : k % L < L := Nat.mod_lt _ (by omega)
  have jr : jrem (iz k) (iz L) = iz ((k % L : Nat) : Int) := by rw [jrem_iz (by omega)]; congr 1
  unfold x_goesTo qf
  rw [e16, e13, h4, jr, nz_iz (by omega), nz_iz (by omega)]
  rcases hd with rfl | rfl
  · rw [if_pos (show (0 : Int) = 0 from rfl)]
    obtain ⟨g1, g2, g3⟩ := h6 _ kl
    exact ⟨iteTE rfl (chkE rfl (by omega) (by rw [iz_clampN (by omega), g1])), g3⟩
  · rw [if_neg (show ¬ (1 : Int) = 0 by decide)]
    obtain ⟨g1, g2, g3⟩ := h6 (L - 1 - k % L) (by omega)
    have e : iz L - 1 - iz ((k % L : Nat) : Int) = iz ((L - 1 - k % L : Nat) : Int) := by rw [show (1 : Int32) = iz 1 from rfl, iz_sub, iz_sub]; congr 1; omega
    exact ⟨iteFE (show ¬ iz 1 = 0 by decide) (chkE e (by omega) (by rw [e, iz_clampN (by omega), g1])), g3⟩
/-- the minute of a dent -/
def tm (M : MS) (q : Nat → Int) : Nat → Int
  | 0 => dst M (-1) (q 0)
  | k + 1 => tm M q k + (ma M 5 3 + dst M (q k) (q (k + 1)))
theorem tm_R {X : XS} {M : MS} (h : RP X M) {q : Nat → Int} (hq : ∀ k, 0 ≤ q k ∧ q k < mi M 0) : ∀ k : Nat, 0 ≤ tm M q k ∧ tm M q k ≤ 279 * (k + 1) := by
  intro k
  have hs := h.2.2.1.2.2.2
  induction k with
  | zero =>
    have := dst_R h (p := -1) (q := q 0) (by have := hq 0; omega) (by have := hq 0; omega)
    unfold tm
    omega
  | succ k ih =>
    have := dst_R h (p := q k) (q := q (k + 1)) (by have := hq k; omega) (by have := hq (k + 1); omega)
    unfold tm
    omega
/-- the dents laid: so many, each with its post and its minute -/
def Dn (M : MS) (q : Nat → Int) (lim D : Nat) : Prop := D ≤ lim ∧ (∀ k, k < D → tm M q k ≤ 1999) ∧ (D = lim ∨ 1999 < tm M q D)
theorem Dn.uniq {M : MS} {q : Nat → Int} {lim D D' : Nat} (h : Dn M q lim D) (h' : Dn M q lim D') : D = D' := by
  obtain ⟨a1, a2, a3⟩ := h
  obtain ⟨b1, b2, b3⟩ := h'
  by_cases c : D < D'
  · have := b2 D c
    rcases a3 with a3 | a3 <;> omega
  · by_cases c' : D' < D
    · have := a2 D' c'
      rcases b3 with b3 | b3 <;> omega
    · omega
theorem dents_l {X T : XS} {M S : MS} {L : Nat} {g : Nat → Int} (h : R X M) (hr : Rnd X M T S L g) (hL : 1 ≤ L) (N : Nat) {d : Int} (hd : d = 0 ∨ d = 1) : ∀ (n k : Nat) (U : XS), k ≤ 4000 → 4000 - k < n → xs X U → U.1 16 = T.1 16 → U.2.1 13 = T.2.1 13 → U.1 17 = iz k → (∀ j, j < k → U.2.1 14 j = iz (qf g L d j) ∧ U.2.1 15 j = iz (tm M (qf g L d) j) ∧ tm M (qf g L d) j ≤ 1999) → ∃ (U' : XS) (D : Nat), x_layDents_b24 N (iz d) n U (iz (tm M (qf g L d) k)) = some U' ∧ xs X U' ∧ U'.1 16 = T.1 16 ∧ U'.2.1 13 = T.2.1 13 ∧ U'.1 17 = iz D ∧ (∀ j, j < D → U'.2.1 14 j = iz (qf g L d j) ∧ U'.2.1 15 j = iz (tm M (qf g L d) j)) ∧ Dn M (qf g L d) 4000 D ∧ (∀ r, r ≠ 14 → r ≠ 15 → U'.2.1 r = U.2.1 r) ∧ ∀ r, r ≠ 17 → U'.1 r = U.1 r := by
  intro n
  induction n with
  | zero => intro k U h1 h2; omega
  | succ n ih =>
    intro k U h1 h2 hx e16 e13 e17 hj
    have rp := (h.scr hx (sm.rf M)).1
    have gz : ∀ j : Nat, 0 ≤ qf g L d j ∧ qf g L d j < mi M 0 := fun j => by
      have kl : j % L < L := Nat.mod_lt _ (by omega)
      unfold qf
      split
      · exact (hr.2.2.2.2.2 _ kl).2.2
      · exact (hr.2.2.2.2.2 (L - 1 - j % L) (by omega)).2.2
    have tr := tm_R h.1 gz k
    have tr1 := tm_R h.1 gz (k + 1)
    rw [x_layDents_b24]
    have e1 : ((1999 : Int32) < iz (tm M (qf g L d) k)) ↔ 1999 < tm M (qf g L d) k := by rw [show (1999 : Int32) = iz 1999 from rfl, iz_lt (by omega)]
    have e2 : ((4000 : Int32) ≤ U.1 17) ↔ 4000 ≤ k := by rw [e17, show (4000 : Int32) = iz 4000 from rfl, iz_le (by omega)]; omega
    by_cases c1 : 1999 < tm M (qf g L d) k
    · exact ⟨U, k, iteTE (e1.mpr c1) rfl, hx, e16, e13, e17, fun j q => ⟨(hj j q).1, (hj j q).2.1⟩, ⟨h1, fun j q => (hj j q).2.2, Or.inr c1⟩, fun _ _ _ => rfl, fun _ _ => rfl⟩
    by_cases c2 : 4000 ≤ k
    · exact ⟨U, k, iteFE (fun q => c1 (e1.mp q)) (iteTE (e2.mpr c2) rfl), hx, e16, e13, e17, fun j q => ⟨(hj j q).1, (hj j q).2.1⟩, ⟨h1, fun j q => (hj j q).2.2, Or.inl (by omega)⟩, fun _ _ _ => rfl, fun _ _ => rfl⟩
    have ni : iz k + 1 = iz ((k + 1 : Nat) : Int) := by rw [show (1 : Int32) = iz 1 from rfl, iz_add]; rfl
    have x2 : xs X (xA (xA U 14 k (iz (qf g L d k))) 15 k (iz (tm M (qf g L d) k))) := (hx.setA rfl _ _).setA rfl _ _
    have f13 : (xA (xA U 14 k (iz (qf g L d k))) 15 k (iz (tm M (qf g L d) k))).2.1 13 = T.2.1 13 := by
      rw [← e13]
      funext i
      rw [xA21, if_neg (by decide), xA21, if_neg (by decide)]
    have rp2 := (h.scr x2 (sm.rf M)).1
    obtain ⟨U', D, g1, g2, g3, g4, g5, g6, g7, g8, g9⟩ := ih (k + 1) (xI (xA (xA U 14 k (iz (qf g L d k))) 15 k (iz (tm M (qf g L d) k))) 17 (iz ((k + 1 : Nat) : Int))) (by omega) (by omega) (x2.setI rfl _) e16 f13 rfl (fun j hj' => by
      show (xA (xA U 14 k (iz (qf g L d k))) 15 k (iz (tm M (qf g L d) k))).2.1 14 j = _ ∧ (xA (xA U 14 k (iz (qf g L d k))) 15 k (iz (tm M (qf g L d) k))).2.1 15 j = _ ∧ _
      rw [xA21, if_neg (by decide), xA21, if_pos rfl, xA21, if_pos rfl]
      by_cases c : j = k
      · rw [if_pos c, if_pos c, c]; exact ⟨rfl, rfl, by omega⟩
      · rw [if_neg c, if_neg c, xA21, if_neg (by decide)]; exact hj j (by omega))
    refine ⟨U', D, iteFE (fun q => c1 (e1.mp q)) (iteFE (fun q => c2 (e2.mp q)) (bindE (by rw [e17]; exact (goes_iz hr e16 e13 hL hd (by omega)).1) (chkE e17 (by omega) ?_))), g2, g3, g4, g5, g6, g7, fun r r1 r2 => ?_, fun r hr' => ?_⟩
    · simp only [nmE, xA1]
      rw [e17, iz_clampN (by omega), chk_iz (by omega), ni]
      refine bindE (goes_iz hr (by exact e16) f13 hL hd (by omega)).1 (bindE (goes_iz hr (by exact e16) f13 hL hd (by omega)).1 (bindE (x_between_iz rp2 (gz k) (gz (k + 1))) ?_))
      rw [show U.1 5 = iz (ma M 5 3) from rp.2.1.2.2.2, iz_add, iz_add]
      exact g1
    · rw [g8 r r1 r2]
      funext i
      show (xA (xA U 14 k (iz (qf g L d k))) 15 k (iz (tm M (qf g L d) k))).2.1 r i = _
      rw [xA21, if_neg r2, xA21, if_neg r1]
    · rw [g9 r hr', xI1, if_neg hr']; rfl
theorem dents_iz {X T : XS} {M S : MS} {L : Nat} {g : Nat → Int} (h : R X M) (hr : Rnd X M T S L g) {N : Nat} (hN : 5000 ≤ N) {d : Int} (hd : d = 0 ∨ d = 1) : ∃ (U : XS) (D : Nat), x_layDents N T (iz d) = some U ∧ xs X U ∧ U.1 16 = T.1 16 ∧ U.2.1 13 = T.2.1 13 ∧ U.1 17 = iz D ∧ (∀ j, j < D → U.2.1 14 j = iz (qf g L d j) ∧ U.2.1 15 j = iz (tm M (qf g L d) j)) ∧ (if L = 0 then D = 0 else Dn M (qf g L d) 4000 D) ∧ (∀ r, r ≠ 14 → r ≠ 15 → U.2.1 r = T.2.1 r) ∧ ∀ r, r ≠ 17 → U.1 r = T.1 r := by
  unfold x_layDents
  rw [nmE]
  have t16 : (xI T 17 0).1 16 = iz L := hr.2.2.2.1
  have L20 := hr.2.2.1
  by_cases c : L = 0
  · subst c
    exact ⟨xI T 17 0, 0, iteTE (by rw [t16]; rfl) rfl, hr.1.setI rfl _, rfl, rfl, rfl, fun j hj => absurd hj (by omega), rfl, fun _ _ _ => rfl, fun r hr' => by rw [xI1, if_neg hr']⟩
  · obtain ⟨U, D, g1, g2, g3, g4, g5, g6, g7, g8, g9⟩ := dents_l h hr (by omega) N hd N 0 (xI T 17 0) (by omega) (by omega) (hr.1.setI rfl _) rfl rfl rfl (fun j hj => absurd hj (by omega))
    have rp := (h.scr (hr.1.setI (k := 17) rfl 0) (sm.rf M)).1
    have gg := goes_iz hr (T' := xI T 17 0) rfl rfl (by omega) hd (k := 0) (by omega)
    refine ⟨U, D, iteFE (by rw [t16, show (0 : Int32) = iz 0 from rfl, iz_eq (by omega)]; omega) (bindE gg.1 (bindE (x_fromGate_iz rp gg.2) ?_)), g2, g3, g4, g5, g6, by rw [if_neg c]; exact g7, g8, fun r hr' => by rw [g9 r hr', xI1, if_neg hr']⟩
    rw [dst_comm]
    exact g1
theorem walks_l {X T : XS} {M S : MS} {L : Nat} {g : Nat → Int} (h : R X M) (hr : Rnd X M T S L g) (hL : 1 ≤ L) (N : Nat) {lim : Nat} (hlim : lim ≤ 4000) : ∀ (n k : Nat) (U : MS) (p : Int), k ≤ lim → lim - k < n → sm M U → U.1 44 = S.1 44 → U.2.1 45 = S.2.1 45 → U.1 46 = iz k → (-1 ≤ p ∧ p < mi M 0) → (∀ j, j < k → U.2.1 48 j = iz (qf g L 0 j) ∧ U.2.1 47 j = iz (tm M (qf g L 0) j) ∧ tm M (qf g L 0) j ≤ 1999) → ∀ t : Int, t + dst M p (qf g L 0 k) = tm M (qf g L 0) k → ∃ (U' : MS) (D : Nat), m_walks_b12 N (iz lim) n U (iz t) (iz p) (iz ((k % L : Nat) : Int)) = some U' ∧ sm M U' ∧ U'.1 44 = S.1 44 ∧ U'.2.1 45 = S.2.1 45 ∧ U'.1 46 = iz D ∧ (∀ j, j < D → U'.2.1 48 j = iz (qf g L 0 j) ∧ U'.2.1 47 j = iz (tm M (qf g L 0) j)) ∧ Dn M (qf g L 0) lim D ∧ (∀ r, r ≠ 47 → r ≠ 48 → U'.2.1 r = U.2.1 r) ∧ ∀ r, r ≠ 46 → U'.1 r = U.1 r := by
  intro n
  induction n with
  | zero => intro k U p h1 h2; omega
  | succ n ih =>
    intro k U p h1 h2 hx e44 e45 e46 hp hj t ht
    have L20 := hr.2.2.1
    have kl : k % L < L := Nat.mod_lt _ (by omega)
    have q0 : ∀ j, qf g L 0 j = g (j % L) := fun j => if_pos rfl
    have gz : ∀ j : Nat, 0 ≤ qf g L 0 j ∧ qf g L 0 j < mi M 0 := fun j => by
      rw [q0]; exact (hr.2.2.2.2.2 _ (Nat.mod_lt _ (by omega))).2.2
    have tr := tm_R h.1 gz k
    have u44 : U.1 44 = iz L := by rw [e44]; exact hr.2.2.2.2.1
    have rp := (h.scr (xs.rf X) hx).1
    have u45 : U.2.1 45 (iz ((k % L : Nat) : Int)).toNatClampNeg = iz (qf g L 0 k) := by rw [iz_clampN (by omega), e45, (hr.2.2.2.2.2 _ kl).2.1, q0]
    have i0 : mi U 0 = mi M 0 := sm_mi hx rfl
    rw [m_walks_b12]
    have e1 : ¬ U.1 44 ≤ 0 := by rw [u44, show (0 : Int32) = iz 0 from rfl, iz_le (by omega)]; omega
    have e2 : (iz lim ≤ U.1 46) ↔ lim ≤ k := by rw [e46, iz_le (by omega)]; omega
    by_cases c2 : lim ≤ k
    · exact ⟨U, k, iteFE e1 (iteTE (e2.mpr c2) rfl), hx, e44, e45, e46, fun j q => ⟨(hj j q).1, (hj j q).2.1⟩, ⟨h1, fun j q => (hj j q).2.2, Or.inl (by omega)⟩, fun _ _ _ => rfl, fun _ _ => rfl⟩
    have gk := gz k
    have mm : m_minutes U (iz p) (iz (qf g L 0 k)) = some (iz (dst M p (qf g L 0 k))) := by rw [m_minutes_iz rp (by omega) (by omega), dst_sm hx]
    have e3 : (iz (tm M (qf g L 0) k) < 2000) ↔ tm M (qf g L 0) k < 2000 := by rw [show (2000 : Int32) = iz 2000 from rfl, iz_lt (by omega)]
    by_cases c1 : ¬ tm M (qf g L 0) k < 2000
    · refine ⟨U, k, iteFE e1 (iteFE (fun q => c2 (e2.mp q)) (chkE rfl (by omega) (bindE (by rw [u45]; exact mm) ?_))), hx, e44, e45, e46, fun j q => ⟨(hj j q).1, (hj j q).2.1⟩, ⟨h1, fun j q => (hj j q).2.2, Or.inr (by omega)⟩, fun _ _ _ => rfl, fun _ _ => rfl⟩
      rw [nmE, iz_add, ht]
      exact iteFE (fun q => c1 (e3.mp q)) rfl
    replace c1 := Decidable.not_not.mp c1
    have ni : iz k + 1 = iz ((k + 1 : Nat) : Int) := by rw [show (1 : Int32) = iz 1 from rfl, iz_add]; rfl
    have nl : jrem (iz ((k % L : Nat) : Int) + 1) (iz L) = iz (((k + 1) % L : Nat) : Int) := by
      rw [show (1 : Int32) = iz 1 from rfl, iz_add, jrem_iz (by omega)]
      congr 1
      rw [show ((k % L : Nat) : Int) + 1 = ((k % L + 1 : Nat) : Int) by omega, ← Int.natCast_emod, Nat.mod_add_mod]
    obtain ⟨U', D, g1, g2, g3, g4, g5, g6, g7, g8, g9⟩ := ih (k + 1) (sA (sI (sA U 47 k (iz (tm M (qf g L 0) k))) 46 (iz ((k + 1 : Nat) : Int))) 48 k (iz (qf g L 0 k))) (qf g L 0 k) (by omega) (by omega) (((hx.setA rfl _ _).setI rfl _).setA rfl _ _) e44 (by
      rw [← e45]
      funext i
      rw [sA21, if_neg (by decide)]
      show (sA U 47 k (iz (tm M (qf g L 0) k))).2.1 45 i = _
      rw [sA21, if_neg (by decide)]) rfl (by omega) (fun j hj' => by
      have a48 : (sA (sI (sA U 47 k (iz (tm M (qf g L 0) k))) 46 (iz ((k + 1 : Nat) : Int))) 48 k (iz (qf g L 0 k))).2.1 48 j = if j = k then iz (qf g L 0 k) else U.2.1 48 j := by
        rw [sA21, if_pos rfl]
        by_cases c : j = k
        · rw [if_pos c, if_pos c]
        · rw [if_neg c, if_neg c]
          show (sA U 47 k (iz (tm M (qf g L 0) k))).2.1 48 j = _
          rw [sA21, if_neg (by decide)]
      have a47 : (sA (sI (sA U 47 k (iz (tm M (qf g L 0) k))) 46 (iz ((k + 1 : Nat) : Int))) 48 k (iz (qf g L 0 k))).2.1 47 j = if j = k then iz (tm M (qf g L 0) k) else U.2.1 47 j := by
        rw [sA21, if_neg (by decide)]
        show (sA U 47 k (iz (tm M (qf g L 0) k))).2.1 47 j = _
        rw [sA21, if_pos rfl]
      rw [a48, a47]
      by_cases c : j = k
      · rw [if_pos c, if_pos c, c]; exact ⟨rfl, rfl, by omega⟩
      · rw [if_neg c, if_neg c]; exact hj j (by omega)) (tm M (qf g L 0) k + ma M 5 3) (by show _ = tm M (qf g L 0) k + (ma M 5 3 + dst M (qf g L 0 k) (qf g L 0 (k + 1))); omega)
    refine ⟨U', D, iteFE e1 (iteFE (fun q => c2 (e2.mp q)) (chkE rfl (by omega) (bindE (by rw [u45]; exact mm) ?_))), g2, g3, g4, g5, g6, g7, fun r r1 r2 => ?_, fun r hr' => ?_⟩
    · rw [nmE, iz_add, ht]
      refine iteTE (e3.mpr c1) (chkE e46 (by omega) ?_)
      simp only [nmE, sA1]
      rw [e46, ni, iz_clampN (n := k) (by omega), chk_iz (by omega), chk_iz (by omega), chk_iz (by omega)]
      have v45 : (sI (sA U 47 k (iz (tm M (qf g L 0) k))) 46 (iz ((k + 1 : Nat) : Int))).2.1 45 (iz ((k % L : Nat) : Int)).toNatClampNeg = iz (qf g L 0 k) := by
        rw [← u45]
        show (sA U 47 k (iz (tm M (qf g L 0) k))).2.1 45 _ = _
        rw [sA21, if_neg (by decide)]
      have w45 : (sA (sI (sA U 47 k (iz (tm M (qf g L 0) k))) 46 (iz ((k + 1 : Nat) : Int))) 48 k (iz (qf g L 0 k))).2.1 45 (iz ((k % L : Nat) : Int)).toNatClampNeg = iz (qf g L 0 k) := by
        rw [← v45, sA21, if_neg (by decide)]
      have w5 : (sA (sI (sA U 47 k (iz (tm M (qf g L 0) k))) 46 (iz ((k + 1 : Nat) : Int))) 48 k (iz (qf g L 0 k))).2.1 5 3 = iz (ma M 5 3) := by
        rw [sA21, if_neg (by decide)]
        show (sA U 47 k (iz (tm M (qf g L 0) k))).2.1 5 3 = _
        rw [sA21, if_neg (by decide), hx.2.2 5 rfl, ma_eq]
      have w44 : (sI (sA U 47 k (iz (tm M (qf g L 0) k))) 46 (iz ((k + 1 : Nat) : Int))).1 44 = iz L := u44
      rw [v45, w45, w5, w44, nz_iz (by omega), nl, iz_add]
      exact g1
    · rw [g8 r r1 r2]
      funext i
      rw [sA21, if_neg r2]
      show (sA U 47 k (iz (tm M (qf g L 0) k))).2.1 r i = _
      rw [sA21, if_neg r1]
    · rw [g9 r hr', sA1, sI1, if_neg hr']; rfl
theorem walks_iz {X T : XS} {M S : MS} {L : Nat} {g : Nat → Int} (h : R X M) (hr : Rnd X M T S L g) {N : Nat} (hN : 5000 ≤ N) {lim : Nat} (hlim : lim ≤ 4000) : ∃ (U : MS) (D : Nat), m_walks N S (iz lim) = some U ∧ sm M U ∧ U.1 44 = S.1 44 ∧ U.2.1 45 = S.2.1 45 ∧ U.1 46 = iz D ∧ (∀ j, j < D → U.2.1 48 j = iz (qf g L 0 j) ∧ U.2.1 47 j = iz (tm M (qf g L 0) j)) ∧ (if L = 0 then D = 0 else Dn M (qf g L 0) lim D) ∧ (∀ r, r ≠ 47 → r ≠ 48 → U.2.1 r = S.2.1 r) ∧ ∀ r, r ≠ 46 → U.1 r = S.1 r := by
  unfold m_walks
  rw [nmE]
  have s44 : (sI S 46 0).1 44 = iz L := hr.2.2.2.2.1
  have L20 := hr.2.2.1
  obtain ⟨N, rfl⟩ : ∃ n, N = n + 1 := ⟨N - 1, by omega⟩
  by_cases c : L = 0
  · subst c
    refine ⟨sI S 46 0, 0, ?_, hr.2.1.setI rfl _, rfl, rfl, rfl, fun j hj => absurd hj (by omega), rfl, fun _ _ _ => rfl, fun r hr' => by rw [sI1, if_neg hr']⟩
    rw [m_walks_b12]
    exact iteTE (by rw [s44]; decide) rfl
  · obtain ⟨U, D, g1, g2, g3, g4, g5, g6, g7, g8, g9⟩ := walks_l h hr (by omega) (N + 1) hlim (N + 1) 0 (sI S 46 0) (-1) (by omega) (by omega) (hr.2.1.setI rfl _) rfl rfl rfl (by have := h.1.1.2; omega) (fun j hj => absurd hj (by omega)) 0 (by unfold tm; omega)
    rw [Nat.zero_mod] at g1
    exact ⟨U, D, g1, g2, g3, g4, g5, g6, by rw [if_neg c]; exact g7, g8, fun r hr' => by rw [g9 r hr', sI1, if_neg hr']⟩
