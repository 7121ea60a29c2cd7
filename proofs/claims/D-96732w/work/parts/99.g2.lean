/-! PLAIN LAW: the law's reader: one more of a chain; a rule and its chain. Own text. -/
set_option maxRecDepth 100000
theorem b2iT' {b : Bool} (h : b = true) : ¬ b2i b = (0 : Int32) := by subst h; exact b2iT
theorem b2iF' {b : Bool} (h : b = false) : b2i b = (0 : Int32) := by subst h; exact b2iF
/-- chains: what is asked of their texts -/
def opcOK (opc : Int → Option Int) : Prop := ∀ x k, opc x = some k → (6 ≤ k ∧ k ≤ 15) ∧ x = signOf k ∧ 0 ≤ x ∧ ¬ (48 ≤ x ∧ x ≤ 57)
theorem step_spec {M : MS} {n a0 : Nat} (ht : Tape M n) {subM : MS → Option (Bool × MS)} {subR : rQ → Nat → XS → Prop} {contM loopM : MS → Option (Bool × MS)} {contR loopR : rQ → Nat → XS → Option Nat → Prop} {op : Nat} {opc : Int → Option Int} (hopc : opcOK opc)
    (hsub : ∀ (S : MS) (at_ cd : Nat), MRd M n S at_ op cd → SSpec M n a0 subM subR S at_ op cd) {S : MS} {at_ cd : Nat} (hS : MRd M n S at_ op cd)
    (hMn : opc (ch M n at_) = none → loopM S = some (true, S))
    (hMs : ∀ k, opc (ch M n at_) = some k → ∀ (b : Bool) (S1 : MS), subM (sI S 14 (iz ((at_ + 1 : Nat) : Int))) = some (b, S1) → (b = false → loopM S = some (false, S1)) ∧ (b = true → ∀ S2, m_codes S1 (iz k) = some (true, S2) → loopM S = contM S2))
    (hRn : opc (ch M n at_) = none → ∀ (Q : rQ) (m : Nat) (T : XS) (q1 : Nat), RdX M n a0 T at_ (-1) op → Q (some q1) T → loopR Q m T (some q1))
    (hRs : ∀ k, opc (ch M n at_) = some k → ∀ (Q : rQ) (m : Nat) (T : XS) (q1 : Nat) (ro : XO), RdX M n a0 T at_ (-1) op → T.2.2.2 a0 = some ro → (splP m fun m1 m2 => subR (fun v T1 => bindP (getO T1 a0 5) fun _ => splP m2 fun m3 m4 => r_joined (fun v' T2 => contR Q m4 T2 v') a0 m3 T1 (iz (signOf k)) (some q1) v) m1 (xO T a0 (oI ro 0 (iz ((at_ + 1 : Nat) : Int))))) → loopR Q m T (some q1))
    (hRf : at_ < n → ∀ (Q : rQ) (m : Nat) (T : XS) (at2 f op2 : Nat), f ≤ 1000 → RdX M n a0 T at2 f op2 → Q none T → contR Q m T none)
    (hMd : at_ < n → ∀ (S2 : MS) (at2 cd2 : Nat), MRd M n S2 at2 op cd2 → 48 ≤ ch M n at2 ∧ ch M n at2 ≤ 57 → contM S2 = some (true, S2))
    (hcont : ∀ (S2 : MS) (at2 cd2 : Nat), at_ < at2 → MRd M n S2 at2 op cd2 → LSpec M n a0 contM contR S2 at2 op cd2) : LSpec M n a0 loopM loopR S at_ op cd := by
  have n120 := ht.2.1
  obtain ⟨s1, s2, s3, s4, s5, s6, s7, s8⟩ := id hS
  cases ho : opc (ch M n at_) with
  | none =>
    refine ⟨true, true, at_, [], S, hMn ho, ⟨KP.rf S, s3, by omega, fun _ => ⟨s4, s5, by simp, Cds.nil S cd⟩, fun _ z => (by cases z), fun _ => rfl⟩, fun Q m T q1 c1 D hT hn hm hQ => ?_⟩
    refine hRn ho Q m T q1 hT (hQ T _ (Ext.rf a0 T) (Or.inl ⟨rfl, hT, q1, rfl, ?_⟩))
    rw [List.append_nil]
    exact hn.to (by omega)
  | some k =>
    obtain ⟨k1, k2, k3, k4⟩ := hopc _ k ho
    have atn := (ch_R ht at_).2.2.2.2 k3
    have hS1 : MRd M n (sI S 14 (iz ((at_ + 1 : Nat) : Int))) (at_ + 1) op cd := hS.mv ((KP.rf S).set (Or.inl rfl) _) rfl s4 s5 (by omega) (by omega) s8
    obtain ⟨b, ok, at1, c, S1, g1, ⟨g2, g3, g4, g5, g6, g7⟩, g9, g8⟩ := hsub _ _ _ hS1
    have kp1 : KP S S1 := ((KP.rf S).set (Or.inl rfl) _).tr g2
    by_cases hb : b = false
    · have hok : ok = false := by
        cases ok
        · rfl
        · rw [g7 rfl] at hb; cases hb
      refine ⟨false, false, at1, [], S1, (hMs k ho b S1 g1).1 hb, ⟨kp1, g3, by omega, fun z => (by cases z), fun z => (by cases z), fun z => (by cases z)⟩, fun Q m T q1 c1 D hT hn hm hQ => ?_⟩
      obtain ⟨ro, r1, r2, r3, r4, r5, r6⟩ := hT.ob
      refine hRs k ho Q m T q1 ro hT r1 ⟨m, 0, rfl, g8 _ _ _ (hT.at_ r1 _) (by omega) (fun T' g hE hO => ?_)⟩
      rcases hO with ⟨z, -⟩ | ⟨-, rfl, at2, op2, hX⟩
      · rw [hok] at z; cases z
      · obtain ⟨ro', r1', r2', -⟩ := hX.ob
        refine bindPE r2' ⟨0, 0, rfl, joined_no hX (by omega) (hRf atn Q 0 T' at2 at1 op2 (by omega) hX (hQ T' none (((Ext.rf a0 T).own _).tr hE) (Or.inr ⟨rfl, rfl, at2, op2, hX⟩)))⟩
    have hb' : b = true := by cases b with
      | false => exact absurd rfl hb
      | true => rfl
    obtain ⟨g5a, g5b, g5c, g5d⟩ := g5 hb'
    obtain ⟨S2, d1, d2, d3, d4, d5, d6⟩ := m_codes_iz g5b (by omega) (k := k) (by omega)
    have hS2 : MRd M n S2 at1 op (cd + c.length + 1) := hS.mv (kp1.tr d2) (d3.trans g3) (d4.trans g5a) d5 (by omega) (by omega) s8
    have cds2 : Cds S S2 cd (c ++ [k]) := (g5d.pre rfl).app d6
    have lM : loopM S = contM S2 := (hMs k ho b S1 g1).2 hb' S2 d1
    by_cases hok : ok = false
    · -- stuck at a digit
      have dg := g6 hb' hok
      refine ⟨true, false, at1, c ++ [k], S2, lM.trans (hMd atn S2 at1 _ hS2 dg), ⟨kp1.tr d2, d3.trans g3, by omega, fun _ => ⟨d4.trans g5a, ?_, ?_, cds2⟩, fun _ _ => dg, fun z => (by cases z)⟩, fun Q m T q1 c1 D hT hn hm hQ => ?_⟩
      · rw [d5, List.length_append]; rfl
      · rw [List.length_append]; show at_ + (c.length + 1) ≤ at1; omega
      obtain ⟨ro, r1, r2, r3, r4, r5, r6⟩ := hT.ob
      refine hRs k ho Q m T q1 ro hT r1 ⟨m, 0, rfl, g8 _ _ _ (hT.at_ r1 _) (by omega) (fun T' g hE hO => ?_)⟩
      rcases hO with ⟨z, -⟩ | ⟨-, rfl, at2, op2, hX⟩
      · rw [hok] at z; cases z
      · obtain ⟨ro', r1', r2', -⟩ := hX.ob
        refine bindPE r2' ⟨0, 0, rfl, joined_no hX (by omega) (hRf atn Q 0 T' at2 at1 op2 (by omega) hX (hQ T' none (((Ext.rf a0 T).own _).tr hE) (Or.inr ⟨rfl, rfl, at2, op2, hX⟩)))⟩
    have hok' : ok = true := by cases ok with
      | false => exact absurd rfl hok
      | true => rfl
    obtain ⟨b3, ok3, at3, c3, S3, e1, ⟨e2, e3, e4, e5, e6, e7⟩, e8⟩ := hcont S2 at1 _ (by omega) hS2
    refine ⟨b3, ok3, at3, (c ++ [k]) ++ c3, S3, lM.trans e1, ⟨(kp1.tr d2).tr e2, e3, by omega, fun z => ?_, e6, e7⟩, fun Q m T q1 c1 D hT hn hm hQ => ?_⟩
    · obtain ⟨x1, x2, x3, x4⟩ := e5 z
      have l1 : (c ++ [k]).length = c.length + 1 := by rw [List.length_append]; rfl
      refine ⟨x1, ?_, ?_, cds2.app (by rw [l1]; exact x4)⟩
      · rw [x2, List.length_append, l1]; congr 2; omega
      · rw [List.length_append, l1]; omega
    · obtain ⟨ro, r1, r2, r3, r4, r5, r6⟩ := hT.ob
      refine hRs k ho Q m T q1 ro hT r1 ⟨at1 - (at_ + 1), m - (at1 - (at_ + 1)), by omega, g8 _ _ _ (hT.at_ r1 _) (Nat.le_refl _) (fun T' g hE hO => ?_)⟩
      rcases hO with ⟨-, hX, q2, rfl, hn2⟩ | ⟨z, -⟩
      · obtain ⟨ro', r1', r2', -⟩ := hX.ob
        have hE' : Ext a0 T T' := ((Ext.rf a0 T).own _).tr hE
        refine bindPE r2' ⟨1, m - (at1 - (at_ + 1)) - 1, by omega, joined_ok hX (Nat.le_refl _) k1 (nodeR.ext hE' r1 r3 hn) hn2 (fun T2 g2 hE2 hX2 ⟨q3, e, hn3⟩ => ?_)⟩
        subst e
        refine e8 Q _ T2 q3 _ _ hX2 hn3 (by omega) (fun T4 g4 hE4 hO4 => ?_)
        refine hQ T4 g4 ((hE'.tr hE2).tr hE4) ?_
        rcases hO4 with ⟨y1, y2, q5, y3, y4⟩ | ⟨y1, y2, y3⟩
        · refine Or.inl ⟨y1, y2, q5, y3, ?_⟩
          have ec : c1 ++ (c ++ [k] ++ c3) = (c1 ++ (c ++ [k])) ++ c3 := (List.append_assoc _ _ _).symm
          rw [ec]
          exact y4.to (by omega)
        · exact Or.inr ⟨y1, y2, y3⟩
      · rw [hok'] at z; cases z
theorem seq_spec {M : MS} {n a0 : Nat} (ht : Tape M n) {subM ruleM loopM : MS → Option (Bool × MS)} {subR ruleR : rQ → Nat → XS → Prop} {loopR : rQ → Nat → XS → Option Nat → Prop} {op : Nat}
    (hsub : ∀ (S : MS) (at_ cd : Nat), MRd M n S at_ op cd → SSpec M n a0 subM subR S at_ op cd)
    (hM : ∀ S, ruleM S = b2 (subM S) fun b S1 => if b2i b = 0 then some (false, S1) else loopM S1)
    (hR : ∀ (Q : rQ) (m : Nat) (T : XS) (at_ op : Nat), RdX M n a0 T at_ (-1) op → (splP m fun m4 m5 => subR (fun v T8 => loopR Q m5 T8 v) m4 T) → ruleR Q m T)
    (hRf : ∀ (Q : rQ) (m : Nat) (T : XS) (at2 f op2 : Nat), f ≤ 1000 → RdX M n a0 T at2 f op2 → Q none T → loopR Q m T none)
    (hMd : ∀ (S2 : MS) (at2 cd2 : Nat), MRd M n S2 at2 op cd2 → 48 ≤ ch M n at2 ∧ ch M n at2 ≤ 57 → loopM S2 = some (true, S2))
    (hloop : ∀ (S2 : MS) (at2 cd2 : Nat), MRd M n S2 at2 op cd2 → LSpec M n a0 loopM loopR S2 at2 op cd2) {S : MS} {at_ cd : Nat} (hS : MRd M n S at_ op cd) : SSpec M n a0 ruleM ruleR S at_ op cd := by
  have n120 := ht.2.1
  obtain ⟨s1, s2, s3, s4, s5, s6, s7, s8⟩ := id hS
  obtain ⟨b, ok, at1, c, S1, g1, ⟨g2, g3, g4, g5, g6, g7⟩, g9, g8⟩ := hsub _ _ _ hS
  by_cases hb : b = false
  · have hok : ok = false := by
      cases ok
      · rfl
      · rw [g7 rfl] at hb; cases hb
    refine ⟨false, false, at1, [], S1, (hM S).trans (b2E g1 (iteTE (b2iF' hb) rfl)), ⟨g2, g3, g4, fun z => (by cases z), fun z => (by cases z), fun z => (by cases z)⟩, fun z => (by cases z), fun Q m T hT hm hQ => ?_⟩
    refine hR Q m T at_ op hT ⟨m, 0, rfl, g8 _ _ _ hT hm (fun T' g hE hO => ?_)⟩
    rcases hO with ⟨z, -⟩ | ⟨-, rfl, at2, op2, hX⟩
    · rw [hok] at z; cases z
    · exact hRf Q 0 T' at2 at1 op2 (by omega) hX (hQ T' none hE (Or.inr ⟨rfl, rfl, at2, op2, hX⟩))
  have hb' : b = true := by cases b with
    | false => exact absurd rfl hb
    | true => rfl
  obtain ⟨g5a, g5b, g5c, g5d⟩ := g5 hb'
  have hS1 : MRd M n S1 at1 op (cd + c.length) := hS.mv g2 g3 g5a g5b (by omega) (by omega) s8
  have lM : ruleM S = loopM S1 := (hM S).trans (b2E g1 (iteFE (b2iT' hb') rfl))
  by_cases hok : ok = false
  · have dg := g6 hb' hok
    refine ⟨true, false, at1, c, S1, lM.trans (hMd S1 at1 _ hS1 dg), ⟨g2, g3, g4, fun _ => ⟨g5a, g5b, g5c, g5d⟩, fun _ _ => dg, fun z => (by cases z)⟩, fun _ => g9 hb', fun Q m T hT hm hQ => ?_⟩
    refine hR Q m T at_ op hT ⟨m, 0, rfl, g8 _ _ _ hT hm (fun T' g hE hO => ?_)⟩
    rcases hO with ⟨z, -⟩ | ⟨-, rfl, at2, op2, hX⟩
    · rw [hok] at z; cases z
    · exact hRf Q 0 T' at2 at1 op2 (by omega) hX (hQ T' none hE (Or.inr ⟨rfl, rfl, at2, op2, hX⟩))
  have hok' : ok = true := by cases ok with
    | false => exact absurd rfl hok
    | true => rfl
  obtain ⟨b3, ok3, at3, c3, S3, e1, ⟨e2, e3, e4, e5, e6, e7⟩, e8⟩ := hloop S1 at1 _ hS1
  refine ⟨b3, ok3, at3, c ++ c3, S3, lM.trans e1, ⟨g2.tr e2, e3, by omega, fun z => ?_, e6, e7⟩, fun _ => by have := g9 hb'; omega, fun Q m T hT hm hQ => ?_⟩
  · obtain ⟨x1, x2, x3, x4⟩ := e5 z
    refine ⟨x1, ?_, ?_, g5d.app x4⟩
    · rw [x2, List.length_append]; congr 2; omega
    · rw [List.length_append]; omega
  · refine hR Q m T at_ op hT ⟨at1 - at_, m - (at1 - at_), by omega, g8 _ _ _ hT (Nat.le_refl _) (fun T' g hE hO => ?_)⟩
    rcases hO with ⟨-, hX, q2, rfl, hn2⟩ | ⟨z, -⟩
    · refine e8 Q _ T' q2 c _ hX hn2 (by omega) (fun T4 g4 hE4 hO4 => hQ T4 g4 (hE.tr hE4) ?_)
      rcases hO4 with ⟨y1, y2, q5, y3, y4⟩ | ⟨y1, y2, y3⟩
      · exact Or.inl ⟨y1, y2, q5, y3, y4.to (by omega)⟩
      · exact Or.inr ⟨y1, y2, y3⟩
    · rw [hok'] at z; cases z
