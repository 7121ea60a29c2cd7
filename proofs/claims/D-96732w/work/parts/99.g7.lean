/-! PLAIN LAW: the law's reader: a line. Own text. -/
set_option maxRecDepth 100000
theorem nodeR_ne {T : XS} {d a : Nat} {c : List Int} (h : nodeR T d a c) : c ≠ [] := by
  cases d with
  | zero => exact h.elim
  | succ d =>
    obtain ⟨o, ho, h⟩ := h
    rcases h with ⟨-, k, -, -, h, -⟩ | ⟨-, k, -, -, h, -⟩ | ⟨-, b, c1, -, -, h⟩ | ⟨-, b, c1, -, -, h⟩ | ⟨-, b1, b2, c1, c2, k, -, -, -, -, -, -, -, h⟩ <;> subst h <;> simp
theorem nodeR.oth {T : XS} {q : Nat} {o : XO} (hq : T.2.2.2 q = some o) (h6 : o.1 = 6) (x : XO) {d a : Nat} {c : List Int} (g : nodeR T d a c) : nodeR (xO T q x) d a c :=
  nodeR.cg (fun b ob hb ht => by
    rw [xO23, if_neg (fun e => by subst e; rw [hq] at hb; cases hb; omega)]; exact hb) d a c g
theorem RdX.oth {M : MS} {n a0 : Nat} {T : XS} {at_ : Nat} {fa : Int} {op : Nat} (h : RdX M n a0 T at_ fa op) {q : Nat} (hq : q ≠ a0) (x : XO) : RdX M n a0 (xO T q x) at_ fa op := by
  obtain ⟨h1, h2, ro, h3, h4⟩ := h
  exact ⟨h1, h2, ro, by rw [xO23, if_neg (Ne.symm hq)]; exact h3, h4⟩
theorem Ext.oth {a0 q : Nat} {T T' : XS} (h : Ext a0 T T') (hq : T.2.2.2 q = none) (x : XO) : Ext a0 T (xO T' q x) := ⟨h.1, h.2.1, h.2.2.1, fun a o ha ho => by
  rw [xO23, if_neg (fun e => by rw [e, hq] at ho; cases ho)]; exact h.2.2.2 a o ha ho⟩
/-- what a line leaves of the reference's state -/
def KL (S S' : MS) : Prop := (∀ k, k ≠ 14 → k ≠ 15 → k ≠ 16 → k ≠ 17 → S'.1 k = S.1 k) ∧ S'.2.2 = S.2.2 ∧ ∀ r, r ≠ 18 → r ≠ 19 → r ≠ 20 → r ≠ 21 → S'.2.1 r = S.2.1 r
theorem KL.rf (S : MS) : KL S S := ⟨fun _ _ _ _ _ => rfl, rfl, fun _ _ _ _ _ => rfl⟩
theorem KL.tr {S S' S'' : MS} (h : KL S S') (g : KL S' S'') : KL S S'' := ⟨fun k a b c d => (g.1 k a b c d).trans (h.1 k a b c d), g.2.1.trans h.2.1, fun r a b c d => (g.2.2 r a b c d).trans (h.2.2 r a b c d)⟩
theorem KP.kl {S S' : MS} (h : KP S S') : KL S S' := ⟨fun k a b c _ => h.1 k a b c, h.2.1, fun r _ _ _ d => h.2.2 r d⟩
theorem KL.put {S S' : MS} (h : KL S S') {r : Nat} (hr : r = 18 ∨ r = 19 ∨ r = 20) (j : Nat) (v : Int32) : KL S (sA S' r j v) := ⟨h.1, h.2.1, fun k a b c d => by
  rw [← h.2.2 k a b c d]; funext i; rw [sA21, if_neg (by omega)]⟩
theorem KL.set {S S' : MS} (h : KL S S') (v : Int32) : KL S (sI S' 17 v) := ⟨fun j a b c d => by
  rw [sI1, if_neg d]; exact h.1 j a b c d, h.2.1, h.2.2⟩
theorem MRd.kl {M : MS} {n : Nat} {S S' : MS} {at_ op cd at' op' cd' : Nat} (h : MRd M n S at_ op cd) (k : KL S S') (h14 : S'.1 14 = iz at') (h15 : S'.1 15 = iz op') (h16 : S'.1 16 = iz cd') (h1 : at' ≤ n) (h2 : cd' ≤ at') (h3 : op' ≤ 6) : MRd M n S' at' op' cd' :=
  ⟨(k.1 6 (by decide) (by decide) (by decide) (by decide)).trans h.1, (k.2.2 7 (by decide) (by decide) (by decide) (by decide)).trans h.2.1, h14, h15, h16, h1, h2, h3⟩
/-- codes of a line -/
def slc (S : MS) (i j : Nat) (c : List Int) : Prop := j = i + c.length ∧ ∀ k, k < c.length → ma S 21 (i + k) = c.getD k 0
def lnOK (T : XS) (S : MS) (cd i a : Nat) (nx : Option Nat) : Prop := ∃ o : XO, T.2.2.2 a = some o ∧ o.1 = 6 ∧ o.2.2.1 2 = nx ∧ ∃ s md en : Nat, (ma S 18 i = s ∧ ma S 19 i = md ∧ ma S 20 i = en) ∧ en ≤ cd ∧ (∃ (g : Nat) (c : List Int), o.2.2.1 1 = some g ∧ nodeR T 130 g c ∧ slc S md en c) ∧ ((o.2.2.1 0 = none ∧ md = s) ∨ ∃ (t : Nat) (c : List Int), o.2.2.1 0 = some t ∧ nodeR T 130 t c ∧ slc S s md c ∧ c ≠ [])
def LnOut (M : MS) (n a0 : Nat) (S' : MS) (i cd' : Nat) (ok : Bool) (at' : Nat) (T' : XS) (q : Nat) : Prop := (ok = true ∧ RdX M n a0 T' at' (-1) 0 ∧ lnOK T' S' cd' i q none) ∨ (ok = false ∧ ∃ at2 op2 : Nat, RdX M n a0 T' at2 at' op2)
def LnM (M : MS) (n : Nat) (S S' : MS) (at_ cd i : Nat) (b ok : Bool) (at' cd' : Nat) : Prop := KL S S' ∧ S'.1 14 = iz at' ∧ (at_ ≤ at' ∧ at' ≤ n) ∧ (b = true → at_ < at' ∧ MRd M n S' at' 0 cd' ∧ S'.1 17 = iz ((i + 1 : Nat) : Int) ∧ cd ≤ cd' ∧ (∀ r, r = 18 ∨ r = 19 ∨ r = 20 → ∀ k, k ≠ i → ma S' r k = ma S r k) ∧ ∀ k, k < cd → ma S' 21 k = ma S 21 k) ∧ (b = true → ok = false → 48 ≤ ch M n at' ∧ ch M n at' ≤ 57) ∧ (ok = true → b = true)
section LINE
variable {M : MS} {n a0 : Nat} {N : Nat}
theorem b71_ok {S : MS} {i cd : Nat} (h17 : S.1 17 = iz i) (hi : i ≤ 60) (h16 : S.1 16 = iz cd) (hc : cd ≤ 200) : ∃ S', m_isLine_b71 N S = some (true, S') ∧ KL S S' ∧ (∀ k, k ≠ 17 → S'.1 k = S.1 k) ∧ S'.1 17 = iz ((i + 1 : Nat) : Int) ∧ ma S' 20 i = cd ∧ (∀ k, k ≠ i → ma S' 20 k = ma S 20 k) ∧ ∀ r, r ≠ 20 → S'.2.1 r = S.2.1 r := by
  refine ⟨sA (sI S 17 (iz ((i + 1 : Nat) : Int))) 20 i (iz cd), ?_, ((KL.rf S).set _).put (Or.inr (Or.inr rfl)) _ _, fun k hk => ?_, rfl, ?_, fun k hk => ?_, fun r hr => ?_⟩
  · unfold m_isLine_b71
    rw [nmE, h17]
    refine chkE rfl (by omega) ?_
    rw [nmE, iz_clampN (by omega), show (1 : Int32) = iz 1 from rfl, iz_add]
    show some (true, sA _ 20 i (S.1 16)) = _
    rw [h16]; rfl
  · show (sI S 17 _).1 k = _
    rw [sI1, if_neg hk]
  · rw [ma_sA _ _ _ (by omega), if_pos rfl, if_pos rfl]
  · rw [ma_sA _ _ _ (by omega), if_pos rfl, if_neg hk]; rfl
  · funext j; rw [sA21, if_neg hr]; rfl
theorem sA_oth (S : MS) {r : Nat} (j : Nat) (v : Int32) {r' : Nat} (h : r' ≠ r) : (sA S r j v).2.1 r' = S.2.1 r' := by funext i; rw [sA21, if_neg h]
theorem line_spec (ht : Tape M n) (hN : 200 ≤ N) {oX : rO} (ho : ∀ (S : MS) (at_ cd : Nat), MRd M n S at_ 0 cd → SSpec M n a0 (m_isO N 10) (fun Q m T => oX Q a0 m T) S at_ 0 cd) {S : MS} {at_ cd i : Nat} (hS : MRd M n S at_ 0 cd) (h17 : S.1 17 = iz i) (hi : i ≤ 60) :
    ∃ (b ok : Bool) (at' cd' : Nat) (S' : MS), m_isLine N S = some (b, S') ∧ LnM M n S S' at_ cd i b ok at' cd' ∧ ∀ (Q : rQ) (m : Nat) (T : XS), RdX M n a0 T at_ (-1) 0 → 1 + (at' - at_) ≤ m → (∀ (T' : XS) (q : Nat), T.2.2.2 q = none → Ext a0 T T' → LnOut M n a0 S' i cd' ok at' T' q → Q (some q) T') → r_line Q oX N a0 m T := by
  have n120 := ht.2.1
  obtain ⟨s1, s2, s3, s4, s5, s6, s7, s8⟩ := id hS
  have kl1 : KL S (sA S 18 i (iz cd)) := (KL.rf S).put (Or.inl rfl) _ _
  have hS1 : MRd M n (sA S 18 i (iz cd)) at_ 0 cd := hS.kl kl1 s3 s4 s5 s6 s7 s8
  obtain ⟨b, ok, at1, c, S1, g1, ⟨g2, g3, g4, g5, g6, g7⟩, g9, g8⟩ := rulesE ht hN ho hS1
  have w17 : S1.1 17 = iz i := (g2.1 17 (by decide) (by decide) (by decide)).trans h17
  -- the reference, its head
  have hm : ∀ r, (if (b2i b) = 0 then
  some (false, S1)
  else
  chk 61 (S1.1 17) (
  chk 61 (S1.1 17) (
  nm (sA S1 19 (S1.1 17).toNatClampNeg (S1.2.1 18 (S1.1 17).toNatClampNeg)) fun T7 =>
  b2 (m_is T7 63) fun v10 T11 =>
  (if (b2i v10) = 0 then
  m_isLine_b71 N T11
  else
  chk 61 (T11.1 17) (
  nm (sA T11 19 (T11.1 17).toNatClampNeg (T11.1 16)) fun T12 =>
  b2 (m_isE (m_isO N 10) N T12) fun v15 T16 =>
  (if (b2i v15) = 0 then
  some (false, T16)
  else
  m_isLine_b71 N T16)))))) = r → m_isLine N S = r := fun r hr => by
    unfold m_isLine
    refine chkE h17 (by omega) ?_
    rw [nmE, h17, iz_clampN (by omega), s5]
    exact b2E g1 hr
  -- the component, its head
  have hq0 : ∀ {T : XS}, RdX M n a0 T at_ (-1) 0 → ∀ q, T.2.2.2 q = none → q ≠ a0 := fun hT q hq e => by
    obtain ⟨ro, r1, -⟩ := hT.ob
    rw [e, r1] at hq; cases hq
  have hr : ∀ (Q : rQ) (m : Nat) (T : XS), RdX M n a0 T at_ (-1) 0 → 1 + (at1 - at_) ≤ m → (∀ (q : Nat) (T13 : XS) (g : Option Nat) (m10 : Nat), T.2.2.2 q = none → q ≠ a0 → Ext a0 T T13 → T13.2.2.2 q = some (mkO 6 [] []) → Out M n a0 ok at1 0 (at1 - at_) c T13 g → m = 1 + (at1 - at_) + m10 → bindP (getO (xO T13 q (oR (mkO 6 [] []) 1 g)) a0 5) fun q17 =>
  (if 0 ≤ (q17.2.1 1) then
  Q (some q) (xO T13 q (oR (mkO 6 [] []) 1 g))
  else
  bindP (getO (xO T13 q (oR (mkO 6 [] []) 1 g)) a0 5) fun _ =>
  bindP (r_here (xO T13 q (oR (mkO 6 [] []) 1 g)) a0) fun v20 =>
  (if v20 = 63 then
  bindP (getO (xO T13 q (oR (mkO 6 [] []) 1 g)) a0 5) fun q23 =>
  bindP (getO (xO T13 q (oR (mkO 6 [] []) 1 g)) a0 5) fun q25 =>
  nmP (xO (xO T13 q (oR (mkO 6 [] []) 1 g)) a0 (oI q25 0 ((q23.2.1 0) + 1))) fun T27 =>
  bindP (getO T27 q 6) fun q28 =>
  bindP (getO T27 q 6) fun q30 =>
  nmP (xO T27 q (oR q30 0 (q28.2.2.1 1))) fun T32 =>
  bindP (getO T32 a0 5) fun _ =>
  splP m10 fun m36 _ =>
  r_either (fun v35 T40 =>
  bindP (getO T40 q 6) fun q41 =>
  nmP (xO T40 q (oR q41 1 v35)) fun T43 =>
  Q (some q) T43) oX N a0 m36 T32 
  else
  Q (some q) (xO T13 q (oR (mkO 6 [] []) 1 g))))) → r_line Q oX N a0 m T := fun Q m T hT hm1 hQ => by
    refine ⟨m - 1, by omega, fun q hq => ?_⟩
    have qa := hq0 hT q hq
    have hX5 := hT.new hq (mkO 6 [] [])
    obtain ⟨ro5, u1, u2, u3, u4, u5, u6⟩ := hX5.ob
    refine bindPE u2 ⟨at1 - at_, m - 1 - (at1 - at_), by omega, g8 _ _ _ hX5 (Nat.le_refl _) (fun T13 g hE hO => ?_)⟩
    have e13 : T13.2.2.2 q = some (mkO 6 [] []) := hE.2.2.2 q _ qa (by rw [xO23, if_pos rfl])
    exact bindPE (getO_eq e13 rfl) (hQ q T13 g _ hq qa (((Ext.rf a0 T).new hq _).tr hE) e13 hO (by omega))
  -- where the component has a fault
  have hrF : ok = false → ∀ (Q : rQ) (m : Nat) (T : XS), RdX M n a0 T at_ (-1) 0 → 1 + (at1 - at_) ≤ m → (∀ (T' : XS) (q : Nat), T.2.2.2 q = none → Ext a0 T T' → (∃ at2 op2 : Nat, RdX M n a0 T' at2 at1 op2) → Q (some q) T') → r_line Q oX N a0 m T := fun hok Q m T hT hm1 hQ => by
    refine hr Q m T hT hm1 (fun q T13 g m10 hq qa hE e13 hO hm2 => ?_)
    rcases hO with ⟨y, -⟩ | ⟨-, rfl, at2, op2, hX⟩
    · rw [hok] at y; cases y
    · have hX' := hX.oth qa (oR (mkO 6 [] []) 1 none)
      obtain ⟨ro, u1, u2, u3, u4, u5, u6⟩ := hX'.ob
      exact bindPE u2 (iteT (by rw [u5, show (0 : Int32) = iz 0 from rfl, iz_le (by omega)]; omega) (hQ _ q hq (hE.oth hq _) ⟨at2, op2, hX'⟩))
  by_cases hb : b = false
  · have hok : ok = false := by
      cases ok
      · rfl
      · rw [g7 rfl] at hb; cases hb
    exact ⟨false, false, at1, 0, S1, hm _ (iteTE (b2iF' hb) rfl), ⟨kl1.tr g2.kl, g3, g4, fun z => (by cases z), fun z => (by cases z), fun z => (by cases z)⟩, fun Q m T hT hm1 hQ => hrF hok Q m T hT hm1 (fun T' q hq hE hX => hQ T' q hq hE (Or.inr ⟨rfl, hX⟩))⟩
  have hb' : b = true := by cases b with
    | false => exact absurd rfl hb
    | true => rfl
  obtain ⟨g5a, g5b, g5c, g5d⟩ := g5 hb'
  have lt1 := g9 hb'
  have v18 : S1.2.1 18 i = iz cd := by rw [g2.2.2 18 (by decide), sA21, if_pos rfl, if_pos rfl]
  have e18 : ma S1 18 i = cd := by unfold ma; rw [v18, iz_toInt (by omega)]
  have kl7 : KL S (sA S1 19 i (iz cd)) := (kl1.tr g2.kl).put (Or.inr (Or.inl rfl)) _ _
  have hS7 : MRd M n (sA S1 19 i (iz cd)) at1 0 (cd + c.length) := hS.kl kl7 g3 g5a g5b (by omega) (by omega) (by omega)
  have hm7 : ∀ r, (b2 (m_is (sA S1 19 i (iz cd)) 63) fun v10 T11 =>
  (if (b2i v10) = 0 then
  m_isLine_b71 N T11
  else
  chk 61 (T11.1 17) (
  nm (sA T11 19 (T11.1 17).toNatClampNeg (T11.1 16)) fun T12 =>
  b2 (m_isE (m_isO N 10) N T12) fun v15 T16 =>
  (if (b2i v15) = 0 then
  some (false, T16)
  else
  m_isLine_b71 N T16)))) = r → m_isLine N S = r := fun r hr => by
    refine hm r (iteFE (b2iT' hb') (chkE w17 (by omega) (chkE w17 (by omega) ?_)))
    rw [nmE, w17, iz_clampN (by omega), v18]
    exact hr
  by_cases c63 : ch M n at1 = 63
  · -- a test, and what it gives
    have hok : ok = true := by
      cases ok with
      | true => rfl
      | false => have := g6 hb' rfl; omega
    have at1n := (ch_R ht at1).2.2.2.2 (by omega)
    have k11 : KP (sA S1 19 i (iz cd)) (sI (sA S1 19 i (iz cd)) 14 (iz ((at1 + 1 : Nat) : Int))) := (KP.rf _).set (Or.inl rfl) _
    have kl12 : KL S (sA (sI (sA S1 19 i (iz cd)) 14 (iz ((at1 + 1 : Nat) : Int))) 19 i (iz ((cd + c.length : Nat) : Int))) := (kl7.tr k11.kl).put (Or.inr (Or.inl rfl)) _ _
    have hS12 : MRd M n (sA (sI (sA S1 19 i (iz cd)) 14 (iz ((at1 + 1 : Nat) : Int))) 19 i (iz ((cd + c.length : Nat) : Int))) (at1 + 1) 0 (cd + c.length) := hS.kl kl12 rfl g5a g5b (by omega) (by omega) (by omega)
    obtain ⟨b2, ok2, at2, c2, S2, f1, ⟨f2, f3, f4, f5, f6, f7⟩, f9, f8⟩ := rulesE ht hN ho hS12
    have w17' : S2.1 17 = iz i := (f2.1 17 (by decide) (by decide) (by decide)).trans w17
    have hm12 : ∀ r, (if (b2i b2) = 0 then some (false, S2) else m_isLine_b71 N S2) = r → m_isLine N S = r := fun r hr => by
      refine hm7 r (b2E (m_isT ht hS7 (c := 63) (by omega) c63) (iteFE b2iT (chkE w17 (by omega) ?_)))
      rw [nmE, show (sI (sA S1 19 i (iz cd)) 14 (iz ((at1 + 1 : Nat) : Int))).1 17 = iz i from w17, iz_clampN (by omega), show (sI (sA S1 19 i (iz cd)) 14 (iz ((at1 + 1 : Nat) : Int))).1 16 = iz ((cd + c.length : Nat) : Int) from g5b]
      exact b2E f1 hr
    -- the component behind the mark
    have hr2 : ∀ (Q : rQ) (m : Nat) (T : XS), RdX M n a0 T at_ (-1) 0 → 1 + (at2 - at_) ≤ m → (∀ (T40 : XS) (q q1 : Nat) (g2 : Option Nat), T.2.2.2 q = none → Ext a0 T T40 → q ≠ a0 → T40.2.2.2 q = some (oR (oR (mkO 6 [] []) 1 (some q1)) 0 (some q1)) → nodeR T40 (at1 - at_) q1 c → Out M n a0 ok2 at2 0 (at2 - (at1 + 1)) c2 T40 g2 → Q (some q) (xO T40 q (oR (oR (oR (mkO 6 [] []) 1 (some q1)) 0 (some q1)) 1 g2))) → r_line Q oX N a0 m T := fun Q m T hT hm1 hQ => by
      refine hr Q m T hT (by omega) (fun q T13 g m10 hq qa hE e13 hO hm2 => ?_)
      rcases hO with ⟨-, hX, q1, rfl, hn1⟩ | ⟨y, -⟩
      · have hX16 := hX.oth qa (oR (mkO 6 [] []) 1 (some q1))
        have hn16 : nodeR (xO T13 q (oR (mkO 6 [] []) 1 (some q1))) (at1 - at_) q1 c := nodeR.oth e13 rfl _ hn1
        have hE16 : Ext a0 T (xO T13 q (oR (mkO 6 [] []) 1 (some q1))) := hE.oth hq _
        have e16 : (xO T13 q (oR (mkO 6 [] []) 1 (some q1))).2.2.2 q = some (oR (mkO 6 [] []) 1 (some q1)) := by rw [xO23, if_pos rfl]
        revert hX16 hn16 hE16 e16
        generalize (xO T13 q (oR (mkO 6 [] []) 1 (some q1))) = T16
        intro hX16 hn16 hE16 e16
        obtain ⟨ro, u1, u2, u3, u4, u5, u6⟩ := hX16.ob
        refine bindPE u2 (iteF (by rw [u5]; decide) (bindPE u2 (bindPE (r_here_iz ht hX16 (by omega)) (iteT ((cr_eq ht (c := 63) (by omega)).mpr c63) (bindPE u2 (bindPE u2 ?_))))))
        have hX27 := bump hX16 u1
        have e27 : (xO T16 a0 (oI ro 0 (ro.2.1 0 + 1))).2.2.2 q = some (oR (mkO 6 [] []) 1 (some q1)) := by rw [xO23, if_neg qa]; exact e16
        have hE27 : Ext a0 T16 (xO T16 a0 (oI ro 0 (ro.2.1 0 + 1))) := (Ext.rf a0 _).own _
        have hn27 := nodeR.ext hE27 u1 u3 hn16
        have hE27' := hE16.tr hE27
        revert hX27 e27 hn27 hE27'
        generalize (xO T16 a0 (oI ro 0 (ro.2.1 0 + 1))) = T27
        intro hX27 e27 hn27 hE27'
        refine bindPE (getO_eq e27 rfl) (bindPE (getO_eq e27 rfl) ?_)
        have hX32 := hX27.oth qa (oR (oR (mkO 6 [] []) 1 (some q1)) 0 ((oR (mkO 6 [] []) 1 (some q1)).2.2.1 1))
        have hn32 := nodeR.oth e27 rfl (oR (oR (mkO 6 [] []) 1 (some q1)) 0 ((oR (mkO 6 [] []) 1 (some q1)).2.2.1 1)) hn27
        have hE32 : Ext a0 T (xO T27 q (oR (oR (mkO 6 [] []) 1 (some q1)) 0 ((oR (mkO 6 [] []) 1 (some q1)).2.2.1 1))) := hE27'.oth hq _
        have e32 : (xO T27 q (oR (oR (mkO 6 [] []) 1 (some q1)) 0 ((oR (mkO 6 [] []) 1 (some q1)).2.2.1 1))).2.2.2 q = some (oR (oR (mkO 6 [] []) 1 (some q1)) 0 (some q1)) := by rw [xO23, if_pos rfl]; rfl
        obtain ⟨ro2, z1, z2, z3, z4, z5, z6⟩ := hX32.ob
        refine bindPE z2 ⟨m10, 0, rfl, f8 _ _ _ hX32 (by omega) (fun T40 g2 hE40 hO40 => ?_)⟩
        have e40 := hE40.2.2.2 q _ qa e32
        exact bindPE (getO_eq e40 rfl) (hQ T40 q q1 g2 hq (hE32.tr hE40) qa e40 (nodeR.ext hE40 z1 z3 hn32) hO40)
      · rw [hok] at y; cases y
    have hrF2 : ok2 = false → ∀ (Q : rQ) (m : Nat) (T : XS), RdX M n a0 T at_ (-1) 0 → 1 + (at2 - at_) ≤ m → (∀ (T' : XS) (q : Nat), T.2.2.2 q = none → Ext a0 T T' → (∃ at3 op3 : Nat, RdX M n a0 T' at3 at2 op3) → Q (some q) T') → r_line Q oX N a0 m T := fun hok2 Q m T hT hm1 hQ => by
      refine hr2 Q m T hT hm1 (fun T40 q q1 g2 hq hE qa e40 hn hO => ?_)
      rcases hO with ⟨y, -⟩ | ⟨-, rfl, at3, op3, hX⟩
      · rw [hok2] at y; cases y
      · exact hQ _ q hq (hE.oth hq _) ⟨at3, op3, hX.oth qa _⟩
    by_cases hb2 : b2 = false
    · have hok2 : ok2 = false := by
        cases ok2
        · rfl
        · rw [f7 rfl] at hb2; cases hb2
      exact ⟨false, false, at2, 0, S2, hm12 _ (iteTE (b2iF' hb2) rfl), ⟨kl12.tr f2.kl, f3, by omega, fun z => (by cases z), fun z => (by cases z), fun z => (by cases z)⟩, fun Q m T hT hm1 hQ => hrF2 hok2 Q m T hT hm1 (fun T' q hq hE hX => hQ T' q hq hE (Or.inr ⟨rfl, hX⟩))⟩
    have hb2' : b2 = true := by cases b2 with
      | false => exact absurd rfl hb2
      | true => rfl
    obtain ⟨f5a, f5b, f5c, f5d⟩ := f5 hb2'
    have lt2 := f9 hb2'
    obtain ⟨S', x1, x2, x3, x4, x5, x6, x7⟩ := b71_ok (N := N) w17' hi f5b (by omega)
    have klF : KL S S' := (kl12.tr f2.kl).tr x2
    have a18 : S'.2.1 18 = S1.2.1 18 := (x7 18 (by decide)).trans ((f2.2.2 18 (by decide)).trans ((sA_oth _ _ _ (by decide)).trans (sA_oth _ _ _ (by decide))))
    have a19 : S'.2.1 19 = (sA (sI (sA S1 19 i (iz cd)) 14 (iz ((at1 + 1 : Nat) : Int))) 19 i (iz ((cd + c.length : Nat) : Int))).2.1 19 := (x7 19 (by decide)).trans (f2.2.2 19 (by decide))
    have a21 : S'.2.1 21 = S2.2.1 21 := x7 21 (by decide)
    have m21 : ∀ k, k < cd + c.length → ma S' 21 k = ma S1 21 k := fun k hk => by
      rw [ma_cg a21, f5d.1 k hk]
      exact ma_cg ((sA_oth _ _ _ (by decide)).trans (sA_oth _ _ _ (by decide))) k
    refine ⟨true, ok2, at2, cd + c.length + c2.length, S', hm12 _ (iteFE (b2iT' hb2') x1), ⟨klF, (x3 14 (by decide)).trans f3, by omega, fun _ => ⟨by omega, hS.kl klF ((x3 14 (by decide)).trans f3) ((x3 15 (by decide)).trans f5a) ((x3 16 (by decide)).trans f5b) (by omega) (by omega) (by omega), x4, by omega, fun r hr k hk => ?_, fun k hk => ?_⟩, fun _ z => f6 hb2' z, fun _ => rfl⟩, fun Q m T hT hm1 hQ => ?_⟩
    · rcases hr with rfl | rfl | rfl
      · rw [ma_cg a18, ma_cg (g2.2.2 18 (by decide)), ma_sA _ _ _ (by omega), if_pos rfl, if_neg hk]
      · rw [ma_cg a19, ma_sA _ _ _ (by omega), if_pos rfl, if_neg hk, ma_sI, ma_sA _ _ _ (by omega), if_pos rfl, if_neg hk, ma_cg (g2.2.2 19 (by decide))]
        exact ma_cg (sA_oth _ _ _ (by decide)) k
      · rw [x6 k hk, ma_cg (f2.2.2 20 (by decide)), ma_cg (sA_oth _ _ _ (by decide)), ma_sI, ma_cg (sA_oth _ _ _ (by decide)), ma_cg (g2.2.2 20 (by decide))]
        exact ma_cg (sA_oth _ _ _ (by decide)) k
    · rw [m21 k (by omega), g5d.1 k hk]
      exact ma_cg (sA_oth _ _ _ (by decide)) k
    · by_cases hok2 : ok2 = false
      · exact hrF2 hok2 Q m T hT hm1 (fun T' q hq hE hX => hQ T' q hq hE (Or.inr ⟨hok2, hX⟩))
      refine hr2 Q m T hT hm1 (fun T40 q q1 gg hq hE qa e40 hn hO => ?_)
      rcases hO with ⟨y, hX, q2, rfl, hn2⟩ | ⟨y, -⟩
      · refine hQ _ q hq (hE.oth hq _) (Or.inl ⟨y, hX.oth qa _, ?_⟩)
        refine ⟨_, by rw [xO23, if_pos rfl], rfl, rfl, cd, cd + c.length, cd + c.length + c2.length, ⟨?_, ?_, x5⟩, Nat.le_refl _, ⟨q2, c2, rfl, (nodeR.oth e40 rfl _ hn2).to (by omega), rfl, fun k hk => ?_⟩, Or.inr ⟨q1, c, rfl, (nodeR.oth e40 rfl _ hn).to (by omega), ⟨rfl, fun k hk => ?_⟩, nodeR_ne hn⟩⟩
        · rw [ma_cg a18, e18]
        · rw [ma_cg a19, ma_sA _ _ _ (by omega), if_pos rfl, if_pos rfl]
        · rw [ma_cg a21]; exact f5d.2 k hk
        · rw [m21 _ (by omega)]; exact g5d.2 k hk
      · exact absurd y hok2
  · -- no test
    obtain ⟨S', x1, x2, x3, x4, x5, x6, x7⟩ := b71_ok (N := N) (S := sA S1 19 i (iz cd)) w17 hi g5b (by omega)
    have klF : KL S S' := kl7.tr x2
    have a18 : S'.2.1 18 = S1.2.1 18 := (x7 18 (by decide)).trans (sA_oth _ _ _ (by decide))
    have a19 : S'.2.1 19 = (sA S1 19 i (iz cd)).2.1 19 := x7 19 (by decide)
    have a21 : S'.2.1 21 = S1.2.1 21 := (x7 21 (by decide)).trans (sA_oth _ _ _ (by decide))
    refine ⟨true, ok, at1, cd + c.length, S', hm7 _ (b2E (m_isF ht hS7 (c := 63) (by omega) c63) (iteTE b2iF x1)), ⟨klF, (x3 14 (by decide)).trans g3, by omega, fun _ => ⟨by omega, hS.kl klF ((x3 14 (by decide)).trans g3) ((x3 15 (by decide)).trans g5a) ((x3 16 (by decide)).trans g5b) (by omega) (by omega) (by omega), x4, by omega, fun r hr k hk => ?_, fun k hk => ?_⟩, fun _ z => g6 hb' z, fun _ => rfl⟩, fun Q m T hT hm1 hQ => ?_⟩
    · rcases hr with rfl | rfl | rfl
      · rw [ma_cg a18, ma_cg (g2.2.2 18 (by decide)), ma_sA _ _ _ (by omega), if_pos rfl, if_neg hk]
      · rw [ma_cg a19, ma_sA _ _ _ (by omega), if_pos rfl, if_neg hk, ma_cg (g2.2.2 19 (by decide))]
        exact ma_cg (sA_oth _ _ _ (by decide)) k
      · rw [x6 k hk, ma_cg (sA_oth _ _ _ (by decide)), ma_cg (g2.2.2 20 (by decide))]
        exact ma_cg (sA_oth _ _ _ (by decide)) k
    · rw [ma_cg a21, g5d.1 k hk]
      exact ma_cg (sA_oth _ _ _ (by decide)) k
    · by_cases hok : ok = false
      · exact hrF hok Q m T hT hm1 (fun T' q hq hE hX => hQ T' q hq hE (Or.inr ⟨hok, hX⟩))
      refine hr Q m T hT hm1 (fun q T13 g m10 hq qa hE e13 hO hm2 => ?_)
      rcases hO with ⟨y, hX, q1, rfl, hn1⟩ | ⟨y, -⟩
      · have hX16 := hX.oth qa (oR (mkO 6 [] []) 1 (some q1))
        obtain ⟨ro, u1, u2, u3, u4, u5, u6⟩ := hX16.ob
        refine bindPE u2 (iteF (by rw [u5]; decide) (bindPE u2 (bindPE (r_here_iz ht hX16 (by omega)) (iteF (fun z => c63 ((cr_eq ht (c := 63) (by omega)).mp z)) ?_))))
        refine hQ _ q hq (hE.oth hq _) (Or.inl ⟨y, hX16, ?_⟩)
        refine ⟨_, by rw [xO23, if_pos rfl], rfl, rfl, cd, cd, cd + c.length, ⟨?_, ?_, x5⟩, Nat.le_refl _, ⟨q1, c, rfl, (nodeR.oth e13 rfl _ hn1).to (by omega), rfl, fun k hk => ?_⟩, Or.inl ⟨rfl, rfl⟩⟩
        · rw [ma_cg a18, e18]
        · rw [ma_cg a19, ma_sA _ _ _ (by omega), if_pos rfl, if_pos rfl]
        · rw [ma_cg a21]; exact g5d.2 k hk
      · exact absurd y hok
end LINE
