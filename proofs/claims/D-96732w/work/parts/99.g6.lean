/-! PLAIN LAW: the law's reader: signs ahead and brackets; the operand whole. Own text. -/
set_option maxRecDepth 100000
section OPERAND3
variable {M : MS} {n a0 : Nat} {N : Nat}
theorem nameC_low {x : Int} (h : x < 100) : nameC x = none := by
  cases q : nameC x with
  | none => rfl
  | some k => have := nameC_R q; omega
/-- the head of the reference's operand -/
theorem m_head (ht : Tape M n) {d : Nat} {S : MS} {at_ op cd : Nat} (hS : MRd M n S at_ op cd) (hd : ¬ (48 ≤ ch M n at_ ∧ ch M n at_ ≤ 57)) (hn : nameC (ch M n at_) = none) {r : Option (Bool × MS)} (h : (if (S.1 15) = 6 then
    some (false, S)
    else
    nm (sI S 15 ((S.1 15) + 1)) fun T7 =>
    b2 (m_is T7 33) fun v9 T10 =>
    (if (b2i v9) = 0 then
    b2 (m_is T10 45) fun v12 T13 =>
    (if (b2i v12) = 0 then
    b2 (m_is T13 40) fun v15 T16 =>
    (if (b2i v15) = 0 then
    m_isO_b214 (m_isO N d) N false T16
    else
    b2 (m_isE (m_isO N d) N T16) fun v18 T19 =>
    (if (b2i v18) = 0 then
    m_isO_b214 (m_isO N d) N false T19
    else
    b2 (m_is T19 41) fun v21 T22 =>
    (if (b2i v21) = 0 then
    m_isO_b214 (m_isO N d) N false T22
    else
    m_isO_b214 (m_isO N d) N true T22)))
    else
    b2 (m_isO N d T13) fun v24 T25 =>
    (if (b2i v24) = 0 then
    m_isO_b214 (m_isO N d) N false T25
    else
    b2 (m_codes T25 17) fun v27 T28 =>
    (if (b2i v27) = 0 then
    m_isO_b214 (m_isO N d) N false T28
    else
    m_isO_b214 (m_isO N d) N true T28)))
    else
    b2 (m_isO N d T10) fun v30 T31 =>
    (if (b2i v30) = 0 then
    m_isO_b214 (m_isO N d) N false T31
    else
    b2 (m_codes T31 16) fun v33 T34 =>
    (if (b2i v33) = 0 then
    m_isO_b214 (m_isO N d) N false T34
    else
    m_isO_b214 (m_isO N d) N true T34)))) = r) : m_isO N (d + 1) S = r := by
  rw [m_isO]
  refine bindE (m_digF ht hS hd) (iteTE b2iF (bindE (m_sign_iz ht hS) (bindE (name_at (ch_R ht at_).1) ?_)))
  rw [hn]
  exact iteTE (by decide) h
/-- one sign ahead -/
theorem pre_spec (ht : Tape M n) {d : Nat} {S : MS} {at_ op cd : Nat} (hS : MRd M n S at_ op cd) (h6 : op ≤ 5) {x k : Int} {t : Nat} (hx : (x = 33 ∧ k = 16 ∧ t = 9) ∨ (x = 45 ∧ k = 17 ∧ t = 10)) (e : ch M n at_ = x) {oM : MS → Option (Bool × MS)} {oR : rO} (hoM : oM = m_isO N d)
    (ho : ∀ (S : MS) (at_ cd : Nat), MRd M n S at_ (op + 1) cd → SSpec M n a0 oM (fun Q m T => oR Q a0 m T) S at_ (op + 1) cd) : SSpec M n a0 (m_isO N (d + 1)) (fun Q m T => r_operand Q oR N a0 m T) S at_ op cd := by
  subst hoM
  obtain ⟨s1, s2, s3, s4, s5, s6, s7, s8⟩ := id hS
  have n120 := ht.2.1
  have x0 : (x = 33 ∨ x = 45) ∧ 16 ≤ k ∧ k ≤ 17 := by omega
  have atn := (ch_R ht at_).2.2.2.2 (by omega)
  have nd : ¬ (48 ≤ ch M n at_ ∧ ch M n at_ ≤ 57) := by omega
  have nn : nameC (ch M n at_) = none := nameC_low (by omega)
  have e15 : S.1 15 + 1 = iz ((op + 1 : Nat) : Int) := by rw [s4, show (1 : Int32) = iz 1 from rfl, iz_add]; rfl
  have hS7 : MRd M n (sI S 15 (iz ((op + 1 : Nat) : Int))) at_ (op + 1) cd := hS.mv ((KP.rf S).set (Or.inr (Or.inl rfl)) _) s3 rfl s5 (by omega) (by omega) (by omega)
  have hS1 : MRd M n (sI (sI S 15 (iz ((op + 1 : Nat) : Int))) 14 (iz ((at_ + 1 : Nat) : Int))) (at_ + 1) (op + 1) cd := hS7.mv ((KP.rf _).set (Or.inl rfl) _) rfl rfl s5 (by omega) (by omega) (by omega)
  have kp0 : KP S (sI (sI S 15 (iz ((op + 1 : Nat) : Int))) 14 (iz ((at_ + 1 : Nat) : Int))) := ((KP.rf S).set (Or.inr (Or.inl rfl)) _).set (Or.inl rfl) _
  obtain ⟨b, ok, at1, c, S1, g1, ⟨g2, g3, g4, g5, g6, g7⟩, g9, g8⟩ := ho _ _ _ hS1
  -- the reference
  have hm6 : ¬ S.1 15 = 6 := by rw [s4, show (6 : Int32) = iz 6 from rfl, iz_eq (by omega)]; omega
  have hmF : b = false → m_isO N (d + 1) S = some (false, sI S1 15 (S1.1 15 - 1)) := fun hb => by
    refine m_head ht hS nd nn (iteFE hm6 ?_)
    rw [nmE, e15]
    rcases hx with ⟨rfl, rfl, rfl⟩ | ⟨rfl, rfl, rfl⟩
    · exact b2E (m_isT ht hS7 (c := 33) (by omega) e) (iteFE b2iT (b2E g1 (iteTE (b2iF' hb) rfl)))
    · exact b2E (m_isF ht hS7 (c := 33) (by omega) (by omega)) (iteTE b2iF (b2E (m_isT ht hS7 (c := 45) (by omega) e) (iteFE b2iT (b2E g1 (iteTE (b2iF' hb) rfl)))))
  have hmT : b = true → ∀ S2, m_codes S1 (iz k) = some (true, S2) → m_isO N (d + 1) S = some (true, sI S2 15 (S2.1 15 - 1)) := fun hb S2 hc => by
    refine m_head ht hS nd nn (iteFE hm6 ?_)
    rw [nmE, e15]
    rcases hx with ⟨rfl, rfl, rfl⟩ | ⟨rfl, rfl, rfl⟩
    · exact b2E (m_isT ht hS7 (c := 33) (by omega) e) (iteFE b2iT (b2E g1 (iteFE (b2iT' hb) (b2E hc (iteFE b2iT rfl)))))
    · exact b2E (m_isF ht hS7 (c := 33) (by omega) (by omega)) (iteTE b2iF (b2E (m_isT ht hS7 (c := 45) (by omega) e) (iteFE b2iT (b2E g1 (iteFE (b2iT' hb) (b2E hc (iteFE b2iT rfl)))))))
  -- the component
  have hr : ∀ (Q : rQ) (m : Nat) (T : XS), RdX M n a0 T at_ (-1) op → at1 - at_ ≤ m → (∀ (T' : XS) (g : Option Nat), Ext a0 T T' → Out M n a0 ok at1 op (at1 - at_) (c ++ [k]) T' g → Q g T') → r_operand Q oR N a0 m T := fun Q m T hT hm hQ => by
    have body : ∀ l1 : Int32, l1 = iz x → r_operand_b45 Q oR N a0 l1 m T := fun l1 hl => by
      obtain ⟨ro, r1, r2, r3, r4, r5, r6⟩ := hT.ob
      obtain ⟨T3, o1, o2, o3⟩ := opens_yes hT h6
      obtain ⟨ro3, p1, p2, -⟩ := o3.ob
      unfold r_operand_b45
      refine bindPE r2 (b2PE o1 (iteF b2iT (bindPE p2 ⟨at1 - (at_ + 1), m - (at1 - (at_ + 1)), by omega, g8 _ _ _ o3 (Nat.le_refl _) (fun T13 g hE hO => ?_)⟩)))
      rcases hO with ⟨y1, hX, q1, rfl, hn1⟩ | ⟨y1, rfl, at2, op2, hX⟩
      · obtain ⟨ro4, w1, w2, w3, w4, w5, w6⟩ := hX.ob
        obtain ⟨op', v1, v2⟩ := drop hX w1
        have eop : op' = op := by have := v1 (by omega); omega
        subst eop
        obtain ⟨ro5, u1, u2, u3, u4, u5, u6⟩ := v2.ob
        refine bindPE w2 (bindPE w2 (bindPE u2 (iteT (by rw [u5]; decide) ?_)))
        have fin : ∀ (t : Nat), (t = 9 ∧ k = 16) ∨ (t = 10 ∧ k = 17) → ∀ q, (xO T13 a0 (oI ro4 2 (ro4.2.1 2 - 1))).2.2.2 q = none → Q (some q) (xO (xO T13 a0 (oI ro4 2 (ro4.2.1 2 - 1))) q (mkO t [] [some q1])) := fun t hk q hq => by
          have hE2 := (Ext.rf a0 _).new hq (mkO t [] [some q1])
          have hE1 : Ext a0 T13 (xO T13 a0 (oI ro4 2 (ro4.2.1 2 - 1))) := (Ext.rf a0 _).own _
          refine hQ _ _ ((o2.tr hE).tr (hE1.tr hE2)) (Or.inl ⟨y1, v2.new hq _, q, rfl, ?_⟩)
          have hn2 := nodeR.ext (hE1.tr hE2) w1 w3 hn1
          rw [show at1 - at_ = (at1 - (at_ + 1)) + 1 by omega]
          refine ⟨mkO t [] [some q1], by rw [xO23, if_pos rfl], ?_⟩
          rcases hk with ⟨rfl, rfl⟩ | ⟨rfl, rfl⟩
          · exact Or.inr (Or.inr (Or.inl ⟨rfl, q1, c, rfl, hn2, rfl⟩))
          · exact Or.inr (Or.inr (Or.inr (Or.inl ⟨rfl, q1, c, rfl, hn2, rfl⟩)))
        rcases hx with ⟨rfl, rfl, rfl⟩ | ⟨rfl, rfl, rfl⟩
        · exact iteT hl ⟨m - (at1 - (at_ + 1)) - 1, by omega, fun q hq => fin 9 (Or.inl ⟨rfl, rfl⟩) q hq⟩
        · refine iteF (by rw [hl]; decide) ⟨m - (at1 - (at_ + 1)) - 1, by omega, fun q hq => fin 10 (Or.inr ⟨rfl, rfl⟩) q hq⟩
      · obtain ⟨ro4, w1, w2, w3, w4, w5, w6⟩ := hX.ob
        obtain ⟨op', v1, v2⟩ := drop hX w1
        obtain ⟨ro5, u1, u2, u3, u4, u5, u6⟩ := v2.ob
        have hE1 : Ext a0 T13 (xO T13 a0 (oI ro4 2 (ro4.2.1 2 - 1))) := (Ext.rf a0 _).own _
        refine bindPE w2 (bindPE w2 (bindPE u2 (iteF (by rw [u5, show (0 : Int32) = iz 0 from rfl, iz_lt (by omega)]; omega) ?_)))
        exact hQ _ none ((o2.tr hE).tr hE1) (Or.inr ⟨y1, rfl, at2, op', v2⟩)
    refine r_head ht hT s6 nn (fun e' => body 33 ?_) (fun e' => body 45 ?_) (fun e' => by omega) (fun e1 e2 _ => by omega)
    · rw [← e, e']; rfl
    · rw [← e, e']; rfl
  by_cases hb : b = false
  · have hok : ok = false := by
      cases ok
      · rfl
      · rw [g7 rfl] at hb; cases hb
    exact ⟨false, ok, at1, c ++ [k], _, hmF hb, ⟨(kp0.tr g2).set (Or.inr (Or.inl rfl)) _, g3, by omega, fun z => (by cases z), fun z => (by cases z), fun z => (by rw [hok] at z; cases z)⟩, fun z => (by cases z), fun Q m T hT hm hQ => hr Q m T hT hm hQ⟩
  have hb' : b = true := by cases b with
    | false => exact absurd rfl hb
    | true => rfl
  obtain ⟨g5a, g5b, g5c, g5d⟩ := g5 hb'
  obtain ⟨S2, d1, d2, d3, d4, d5, d6⟩ := m_codes_iz g5b (by omega) (k := k) (by omega)
  have eop : S2.1 15 - 1 = iz op := by rw [d4, g5a, show (1 : Int32) = iz 1 from rfl, iz_sub]; exact congrArg iz (by omega)
  refine ⟨true, ok, at1, c ++ [k], _, hmT hb' S2 d1, ⟨((kp0.tr g2).tr d2).set (Or.inr (Or.inl rfl)) _, d3.trans g3, by omega, fun _ => ⟨?_, ?_, ?_, ?_⟩, fun _ z => g6 hb' z, fun _ => rfl⟩, fun _ => by omega, fun Q m T hT hm hQ => hr Q m T hT hm hQ⟩
  · rw [sI1, if_pos rfl, eop]
  · rw [sI1, if_neg (by decide), d5, List.length_append]; rfl
  · rw [List.length_append]; show at_ + (c.length + 1) ≤ at1; omega
  · exact (g5d.pre rfl).app d6
/-- brackets -/
theorem par_spec (ht : Tape M n) (hN : 200 ≤ N) {d : Nat} {S : MS} {at_ op cd : Nat} (hS : MRd M n S at_ op cd) (h6 : op ≤ 5) (e : ch M n at_ = 40) {oM : MS → Option (Bool × MS)} {oR : rO} (hoM : oM = m_isO N d)
    (ho : ∀ (S : MS) (at_ cd : Nat), MRd M n S at_ (op + 1) cd → SSpec M n a0 oM (fun Q m T => oR Q a0 m T) S at_ (op + 1) cd) : SSpec M n a0 (m_isO N (d + 1)) (fun Q m T => r_operand Q oR N a0 m T) S at_ op cd := by
  subst hoM
  obtain ⟨s1, s2, s3, s4, s5, s6, s7, s8⟩ := id hS
  have n120 := ht.2.1
  have atn := (ch_R ht at_).2.2.2.2 (by omega)
  have nd : ¬ (48 ≤ ch M n at_ ∧ ch M n at_ ≤ 57) := by omega
  have nn : nameC (ch M n at_) = none := nameC_low (by omega)
  have e15 : S.1 15 + 1 = iz ((op + 1 : Nat) : Int) := by rw [s4, show (1 : Int32) = iz 1 from rfl, iz_add]; rfl
  have hS7 : MRd M n (sI S 15 (iz ((op + 1 : Nat) : Int))) at_ (op + 1) cd := hS.mv ((KP.rf S).set (Or.inr (Or.inl rfl)) _) s3 rfl s5 (by omega) (by omega) (by omega)
  have hS1 : MRd M n (sI (sI S 15 (iz ((op + 1 : Nat) : Int))) 14 (iz ((at_ + 1 : Nat) : Int))) (at_ + 1) (op + 1) cd := hS7.mv ((KP.rf _).set (Or.inl rfl) _) rfl rfl s5 (by omega) (by omega) (by omega)
  have kp0 : KP S (sI (sI S 15 (iz ((op + 1 : Nat) : Int))) 14 (iz ((at_ + 1 : Nat) : Int))) := ((KP.rf S).set (Or.inr (Or.inl rfl)) _).set (Or.inl rfl) _
  obtain ⟨b, ok, at1, c, S1, g1, ⟨g2, g3, g4, g5, g6, g7⟩, g9, g8⟩ := rulesE ht hN ho hS1
  have hm6 : ¬ S.1 15 = 6 := by rw [s4, show (6 : Int32) = iz 6 from rfl, iz_eq (by omega)]; omega
  have hm : ∀ r, (if (b2i b) = 0 then
    m_isO_b214 (m_isO N d) N false S1
    else
    b2 (m_is S1 41) fun v21 T22 =>
    (if (b2i v21) = 0 then
    m_isO_b214 (m_isO N d) N false T22
    else
    m_isO_b214 (m_isO N d) N true T22)) = r → m_isO N (d + 1) S = r := fun r hr => by
    refine m_head ht hS nd nn (iteFE hm6 ?_)
    rw [nmE, e15]
    exact b2E (m_isF ht hS7 (c := 33) (by omega) (by omega)) (iteTE b2iF (b2E (m_isF ht hS7 (c := 45) (by omega) (by omega)) (iteTE b2iF (b2E (m_isT ht hS7 (c := 40) (by omega) e) (iteFE b2iT (b2E g1 hr))))))
  -- the component, where it finds nothing
  have hr0 : ok = false → ∀ (Q : rQ) (m : Nat) (T : XS), RdX M n a0 T at_ (-1) op → at1 - at_ ≤ m → (∀ (T' : XS) (g : Option Nat), Ext a0 T T' → Out M n a0 false at1 op (at1 - at_) [] T' g → Q g T') → r_operand Q oR N a0 m T := fun hok Q m T hT hm hQ => by
    refine r_head ht hT s6 nn (fun e' => by omega) (fun e' => by omega) (fun _ => ?_) (fun _ _ e' => absurd e e')
    obtain ⟨T3, o1, o2, o3⟩ := opens_yes hT h6
    obtain ⟨ro3, p1, p2, -⟩ := o3.ob
    refine b2PE o1 (iteF b2iT (bindPE p2 ⟨m, 0, rfl, g8 _ _ _ o3 (by omega) (fun T21 g hE hO => ?_)⟩))
    rcases hO with ⟨y1, -⟩ | ⟨y1, rfl, at2, op2, hX⟩
    · rw [hok] at y1; cases y1
    · obtain ⟨ro4, w1, w2, w3, w4, w5, w6⟩ := hX.ob
      refine bindPE w2 (iteF (by rw [w5, show (0 : Int32) = iz 0 from rfl, iz_lt (by omega)]; omega) ?_)
      exact hQ _ none (o2.tr hE) (Or.inr ⟨rfl, rfl, at2, op2, hX⟩)
  by_cases hb : b = false
  · have hok : ok = false := by
      cases ok
      · rfl
      · rw [g7 rfl] at hb; cases hb
    exact ⟨false, false, at1, [], _, hm _ (iteTE (b2iF' hb) rfl), ⟨(kp0.tr g2).set (Or.inr (Or.inl rfl)) _, g3, by omega, fun z => (by cases z), fun z => (by cases z), fun z => (by cases z)⟩, fun z => (by cases z), fun Q m T hT hm hQ => hr0 hok Q m T hT hm hQ⟩
  have hb' : b = true := by cases b with
    | false => exact absurd rfl hb
    | true => rfl
  obtain ⟨g5a, g5b, g5c, g5d⟩ := g5 hb'
  have hS2 : MRd M n S1 at1 (op + 1) (cd + c.length) := hS1.mv g2 g3 g5a g5b (by omega) (by omega) (by omega)
  by_cases c41 : ch M n at1 = 41
  · have hok : ok = true := by
      cases ok with
      | true => rfl
      | false => have := g6 hb' rfl; omega
    have at1n := (ch_R ht at1).2.2.2.2 (by omega)
    have eop : S1.1 15 - 1 = iz op := by rw [g5a, show (1 : Int32) = iz 1 from rfl, iz_sub]; exact congrArg iz (by omega)
    refine ⟨true, true, at1 + 1, c, _, hm _ (iteFE (b2iT' hb') (b2E (m_isT ht hS2 (c := 41) (by omega) c41) (iteFE b2iT rfl))), ⟨((kp0.tr g2).set (Or.inl rfl) _).set (Or.inr (Or.inl rfl)) _, rfl, by omega, fun _ => ⟨?_, g5b, by omega, ?_⟩, fun _ z => (by cases z), fun _ => rfl⟩, fun _ => by omega, fun Q m T hT hm hQ => ?_⟩
    · rw [sI1, if_pos rfl, sI1, if_neg (by decide), eop]
    · exact g5d.pre rfl
    · refine r_head ht hT s6 nn (fun e' => by omega) (fun e' => by omega) (fun _ => ?_) (fun _ _ e' => absurd e e')
      obtain ⟨T3, o1, o2, o3⟩ := opens_yes hT h6
      obtain ⟨ro3, p1, p2, -⟩ := o3.ob
      refine b2PE o1 (iteF b2iT (bindPE p2 ⟨m, 0, rfl, g8 _ _ _ o3 (by omega) (fun T21 g hE hO => ?_)⟩))
      rcases hO with ⟨y1, hX, q1, rfl, hn1⟩ | ⟨y1, -⟩
      · obtain ⟨ro4, w1, w2, w3, w4, w5, w6⟩ := hX.ob
        have hX1 := bump hX w1
        obtain ⟨ro5, u1, u2, u3, u4, u5, u6⟩ := hX1.ob
        obtain ⟨op', v1, v2⟩ := drop hX1 u1
        have eop : op' = op := by have := v1 (by omega); omega
        subst eop
        refine bindPE w2 (iteT (by rw [w5]; decide) (bindPE w2 (bindPE (r_here_iz ht hX (by omega)) (iteT ((cr_eq ht (c := 41) (by omega)).mpr c41) (bindPE w2 (bindPE w2 (bindPE u2 (bindPE u2 ?_))))))))
        have hE1 : Ext a0 T21 (xO (xO T21 a0 (oI ro4 0 (ro4.2.1 0 + 1))) a0 (oI ro5 2 (ro5.2.1 2 - 1))) := ((Ext.rf a0 _).own _).own _
        exact hQ _ _ ((o2.tr hE).tr hE1) (Or.inl ⟨rfl, v2, q1, rfl, (nodeR.ext hE1 w1 w3 hn1).to (by omega)⟩)
      · rw [hok] at y1; cases y1
  · refine ⟨false, false, at1, [], _, hm _ (iteFE (b2iT' hb') (b2E (m_isF ht hS2 (c := 41) (by omega) c41) (iteTE b2iF rfl))), ⟨(kp0.tr g2).set (Or.inr (Or.inl rfl)) _, g3, by omega, fun z => (by cases z), fun z => (by cases z), fun z => (by cases z)⟩, fun z => (by cases z), fun Q m T hT hm hQ => ?_⟩
    by_cases hok : ok = false
    · exact hr0 hok Q m T hT hm hQ
    have hok' : ok = true := by cases ok with
      | false => exact absurd rfl hok
      | true => rfl
    refine r_head ht hT s6 nn (fun e' => by omega) (fun e' => by omega) (fun _ => ?_) (fun _ _ e' => absurd e e')
    obtain ⟨T3, o1, o2, o3⟩ := opens_yes hT h6
    obtain ⟨ro3, p1, p2, -⟩ := o3.ob
    refine b2PE o1 (iteF b2iT (bindPE p2 ⟨m, 0, rfl, g8 _ _ _ o3 (by omega) (fun T21 g hE hO => ?_)⟩))
    rcases hO with ⟨y1, hX, q1, rfl, hn1⟩ | ⟨y1, -⟩
    · obtain ⟨ro4, w1, w2, w3, w4, w5, w6⟩ := hX.ob
      refine bindPE w2 (iteT (by rw [w5]; decide) (bindPE w2 (bindPE (r_here_iz ht hX (by omega)) (iteF (fun z => c41 ((cr_eq ht (c := 41) (by omega)).mp z)) (bindPE w2 ⟨0, 0, rfl, wrong_ok hX (fun T' hE2 hX2 => ?_)⟩)))))
      exact hQ _ none ((o2.tr hE).tr hE2) (Or.inr ⟨rfl, rfl, at1, _, hX2⟩)
    · rw [hok'] at y1; cases y1
theorem operand (ht : Tape M n) (hN : 200 ≤ N) : ∀ (d op : Nat), 7 ≤ op + d → ∀ (S : MS) (at_ cd : Nat), MRd M n S at_ op cd → SSpec M n a0 (m_isO N (d + 2)) (fun Q m T => r_op N d Q a0 m T) S at_ op cd := by
  intro d
  induction d with
  | zero => intro op h S at_ cd hS; have := hS.2.2.2.2.2.2.2; omega
  | succ d ih =>
    intro op h7 S at_ cd hS
    obtain ⟨s1, s2, s3, s4, s5, s6, s7, s8⟩ := id hS
    show SSpec M n a0 (m_isO N ((d + 2) + 1)) (fun Q m T => r_operand Q (r_op N d) N a0 m T) S at_ op cd
    by_cases hd : 48 ≤ ch M n at_ ∧ ch M n at_ ≤ 57
    · exact num_spec ht hN hS hd
    cases hn : nameC (ch M n at_) with
    | some k => exact name_spec ht hS hn
    | none =>
      by_cases h6 : op = 6
      · subst h6
        refine bad_spec (S' := S) s6 ?_ (KP.rf S) s3 (fun Q m T hT hQ => ?_)
        · exact m_head ht hS hd hn (iteTE (by rw [s4]; rfl) rfl)
        · have fin : r_wrong Q a0 m T := wrong_ok hT (fun T' hE hX => hQ T' 6 hE hX)
          have fin' : r_wrong (fun v T => Q v T) a0 m T := fin
          obtain ⟨ro, r1, r2, -⟩ := hT.ob
          have b45 : ∀ l1, r_operand_b45 Q (r_op N d) N a0 l1 m T := fun l1 => by
            unfold r_operand_b45
            exact bindPE r2 (b2PE (opens_no hT) (iteT b2iF (bindPE r2 ⟨m, 0, rfl, fin'⟩)))
          exact r_head ht hT s6 hn (fun _ => b45 33) (fun _ => b45 45) (fun _ => b2PE (opens_no hT) (iteT b2iF (bindPE r2 ⟨m, 0, rfl, fin'⟩))) (fun _ _ _ => r_nodigit ht hN hT s6 hd (fun T' hE hX => hQ T' 6 hE hX))
      have h5 : op ≤ 5 := by omega
      by_cases c33 : ch M n at_ = 33
      · exact pre_spec ht hS h5 (Or.inl ⟨rfl, rfl, rfl⟩) c33 rfl (fun S at_ cd hS => ih (op + 1) (by omega) S at_ cd hS)
      by_cases c45 : ch M n at_ = 45
      · exact pre_spec ht hS h5 (Or.inr ⟨rfl, rfl, rfl⟩) c45 rfl (fun S at_ cd hS => ih (op + 1) (by omega) S at_ cd hS)
      by_cases c40 : ch M n at_ = 40
      · exact par_spec ht hN hS h5 c40 rfl (fun S at_ cd hS => ih (op + 1) (by omega) S at_ cd hS)
      have e15 : S.1 15 + 1 = iz ((op + 1 : Nat) : Int) := by rw [s4, show (1 : Int32) = iz 1 from rfl, iz_add]; rfl
      have hS7 : MRd M n (sI S 15 (iz ((op + 1 : Nat) : Int))) at_ (op + 1) cd := hS.mv ((KP.rf S).set (Or.inr (Or.inl rfl)) _) s3 rfl s5 (by omega) (by omega) (by omega)
      have hm6 : ¬ S.1 15 = 6 := by rw [s4, show (6 : Int32) = iz 6 from rfl, iz_eq (by omega)]; omega
      refine bad_spec (S' := sI (sI S 15 (iz ((op + 1 : Nat) : Int))) 15 ((sI S 15 (iz ((op + 1 : Nat) : Int))).1 15 - 1)) s6 ?_ (((KP.rf S).set (Or.inr (Or.inl rfl)) _).set (Or.inr (Or.inl rfl)) _) s3 (fun Q m T hT hQ => ?_)
      · refine m_head ht hS hd hn (iteFE hm6 ?_)
        rw [nmE, e15]
        exact b2E (m_isF ht hS7 (c := 33) (by omega) c33) (iteTE b2iF (b2E (m_isF ht hS7 (c := 45) (by omega) c45) (iteTE b2iF (b2E (m_isF ht hS7 (c := 40) (by omega) c40) (iteTE b2iF rfl)))))
      · exact r_head ht hT s6 hn (fun z => absurd z c33) (fun z => absurd z c45) (fun z => absurd z c40) (fun _ _ _ => r_nodigit ht hN hT s6 hd (fun T' hE hX => hQ T' op hE hX))
end OPERAND3
