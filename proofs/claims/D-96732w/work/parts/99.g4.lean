/-! PLAIN LAW: the law's reader: an operand. Own text. -/
set_option maxRecDepth 100000
section OPERAND
variable {M : MS} {n a0 : Nat} {N : Nat}
theorem m_digT (ht : Tape M n) {S : MS} {at_ op cd : Nat} (h : MRd M n S at_ op cd) (e : 48 ≤ ch M n at_ ∧ ch M n at_ ≤ 57) : m_isDigit S = some true := by
  unfold m_isDigit
  exact bindE (m_sign_iz ht h) (iteFE (by rw [show (48 : Int32) = iz 48 from rfl, iz_lt (by omega)]; omega) (bindE (m_sign_iz ht h) (iteFE (by rw [show (57 : Int32) = iz 57 from rfl, iz_lt (by omega)]; omega) rfl)))
theorem m_digF (ht : Tape M n) {S : MS} {at_ op cd : Nat} (h : MRd M n S at_ op cd) (e : ¬ (48 ≤ ch M n at_ ∧ ch M n at_ ≤ 57)) : m_isDigit S = some false := by
  have := (ch_R ht at_).1
  unfold m_isDigit
  refine bindE (m_sign_iz ht h) ?_
  by_cases c : ch M n at_ < 48
  · exact iteTE (by rw [show (48 : Int32) = iz 48 from rfl, iz_lt (by omega)]; omega) rfl
  · exact iteFE (by rw [show (48 : Int32) = iz 48 from rfl, iz_lt (by omega)]; omega) (bindE (m_sign_iz ht h) (iteTE (by rw [show (57 : Int32) = iz 57 from rfl, iz_lt (by omega)]; omega) rfl))
theorem x_digT (ht : Tape M n) {at_ : Nat} (e : 48 ≤ ch M n at_ ∧ ch M n at_ ≤ 57) : x_in (iz (cr M n at_)) 48 57 = some true := by
  rw [cr_of ht (by omega), show (48 : Int32) = iz 48 from rfl, show (57 : Int32) = iz 57 from rfl, x_in_iz (by omega), decide_eq_true (by omega)]
theorem x_digF (ht : Tape M n) {at_ : Nat} (e : ¬ (48 ≤ ch M n at_ ∧ ch M n at_ ≤ 57)) : x_in (iz (cr M n at_)) 48 57 = some false := by
  have c := ch_R ht at_
  have c4 := c.2.2.2.1
  have : ¬ (48 ≤ cr M n at_ ∧ cr M n at_ ≤ 57) := fun q => by
    have := c4 (by omega)
    omega
  rw [show (48 : Int32) = iz 48 from rfl, show (57 : Int32) = iz 57 from rfl, x_in_iz (by omega), decide_eq_false this]
theorem cr_eq (ht : Tape M n) {at_ : Nat} {c : Int} (hc : 0 ≤ c ∧ c ≤ 127) : iz (cr M n at_) = iz c ↔ ch M n at_ = c := by
  have r := ch_R ht at_
  rw [iz_eq (by omega)]
  constructor
  · intro e; rw [← r.2.2.2.1 (by omega)]; exact e
  · intro e; rw [r.2.2.1 (by omega)]; exact e
theorem wrong_ok {Q : rQ} {m : Nat} {T : XS} {at_ op : Nat} (h : RdX M n a0 T at_ (-1) op) (hQ : ∀ T', Ext a0 T T' → RdX M n a0 T' at_ at_ op → Q none T') : r_wrong Q a0 m T := by
  obtain ⟨ro, r1, r2, r3, r4, r5, r6⟩ := h.ob
  unfold r_wrong
  refine bindPE r2 (iteF (by rw [r5]; decide) (bindPE r2 (bindPE r2 ?_)))
  rw [r4]
  exact hQ _ ((Ext.rf a0 T).own _) (h.fa r1 _)
theorem opens_no {T : XS} {at_ : Nat} {fa : Int} (h : RdX M n a0 T at_ fa 6) : r_opens T a0 = some (false, T) := by
  obtain ⟨ro, r1, r2, r3, r4, r5, r6⟩ := h.ob
  unfold r_opens
  exact bindE r2 (iteTE (by rw [r6]; rfl) rfl)
theorem opens_yes {T : XS} {at_ op : Nat} {fa : Int} (h : RdX M n a0 T at_ fa op) (h6 : op ≤ 5) : ∃ T', r_opens T a0 = some (true, T') ∧ Ext a0 T T' ∧ RdX M n a0 T' (at_ + 1) fa (op + 1) := by
  obtain ⟨ro, r1, r2, r3, r4, r5, r6⟩ := h.ob
  have g0 : (xO T a0 (oI ro 2 (iz ((op + 1 : Nat) : Int)))).2.2.2 a0 = some (oI ro 2 (iz ((op + 1 : Nat) : Int))) := by rw [xO23, if_pos rfl]
  refine ⟨xO (xO T a0 (oI ro 2 (iz ((op + 1 : Nat) : Int)))) a0 (oI (oI ro 2 (iz ((op + 1 : Nat) : Int))) 0 (iz ((at_ + 1 : Nat) : Int))), ?_, ((Ext.rf a0 T).own _).own _, (h.op r1 (op + 1)).at_ g0 (at_ + 1)⟩
  have g1 : getO (xO T a0 (oI ro 2 (iz ((op + 1 : Nat) : Int)))) a0 5 = some (oI ro 2 (iz ((op + 1 : Nat) : Int))) := getO_eq g0 r3
  have e2 : ro.2.1 2 + 1 = iz ((op + 1 : Nat) : Int) := by rw [r6, show (1 : Int32) = iz 1 from rfl, iz_add]; rfl
  have e0 : (oI ro 2 (iz ((op + 1 : Nat) : Int))).2.1 0 + 1 = iz ((at_ + 1 : Nat) : Int) := by rw [oI21, if_neg (by decide), r4, show (1 : Int32) = iz 1 from rfl, iz_add]; rfl
  unfold r_opens
  refine bindE r2 (iteFE (by rw [r6, show (6 : Int32) = iz 6 from rfl, iz_eq (by omega)]; omega) (bindE r2 (bindE r2 ?_)))
  rw [nmE, e2]
  refine bindE g1 (bindE g1 ?_)
  rw [nmE, e0]
theorem bump {T : XS} {at_ op : Nat} {fa : Int} (h : RdX M n a0 T at_ fa op) {ro : XO} (hr : T.2.2.2 a0 = some ro) : RdX M n a0 (xO T a0 (oI ro 0 (ro.2.1 0 + 1))) (at_ + 1) fa op := by
  obtain ⟨ro', r1, r2, r3, r4, r5, r6⟩ := h.ob
  rw [hr] at r1; cases r1
  rw [show ro.2.1 0 + 1 = iz ((at_ + 1 : Nat) : Int) by rw [r4, show (1 : Int32) = iz 1 from rfl, iz_add]; rfl]
  exact h.at_ hr _
theorem dec_ok (v : Nat) : ∃ w : Nat, iz v - 1 = iz w ∧ (1 ≤ v → w + 1 = v) := by
  rw [show (1 : Int32) = iz 1 from rfl, iz_sub]
  by_cases h : v = 0
  · subst h; exact ⟨4294967295, by decide, fun h => by omega⟩
  · exact ⟨v - 1, congrArg iz (by omega), fun _ => by omega⟩
theorem drop {T : XS} {at_ op : Nat} {fa : Int} (h : RdX M n a0 T at_ fa op) {ro : XO} (hr : T.2.2.2 a0 = some ro) : ∃ op' : Nat, (1 ≤ op → op' + 1 = op) ∧ RdX M n a0 (xO T a0 (oI ro 2 (ro.2.1 2 - 1))) at_ fa op' := by
  obtain ⟨ro', r1, r2, r3, r4, r5, r6⟩ := h.ob
  rw [hr] at r1; cases r1
  obtain ⟨w, w1, w2⟩ := dec_ok op
  exact ⟨w, w2, by rw [r6, w1]; exact h.op hr w⟩
/-! digits -/
theorem dig_spec (ht : Tape M n) {oM : MS → Option (Bool × MS)} {oR : rO} {op cd : Nat} (hcd : cd ≤ 120) : ∀ (r j : Nat) (v : Int) (S : MS) (at_ fu : Nat), r + j = 4 → MRd M n S at_ op cd → j ≤ at_ → 0 ≤ v ∧ v < 10 ^ j → (1 ≤ j ∨ (48 ≤ ch M n at_ ∧ ch M n at_ ≤ 57)) → r < fu →
    ∃ (ok : Bool) (at' : Nat) (c : Int) (S' : MS), m_isO_b11 oM N fu S (iz v) (iz j) = some (true, S') ∧ KP S S' ∧ S'.1 14 = iz at' ∧ S'.1 15 = iz op ∧ S'.1 16 = iz ((cd + 1 : Nat) : Int) ∧ Cds S S' cd [c] ∧ (at_ ≤ at' ∧ at_ + 1 ≤ at' + j ∧ at' ≤ n) ∧ (ok = false → 48 ≤ ch M n at' ∧ ch M n at' ≤ 57) ∧ ∀ (Q : rQ) (m : Nat) (T : XS) (fx : Nat), r < fx → RdX M n a0 T at_ (-1) op → 1 ≤ m → (∀ (T' : XS) (g : Option Nat), Ext a0 T T' → Out M n a0 ok at' op 1 [c] T' g → Q g T') → r_operand_b179 Q oR N a0 fx m T (iz j) (iz v) := by
  have n120 := ht.2.1
  intro r
  induction r with
  | zero =>
    intro j v S at_ fu hj hS hja hv hd hf
    have ej : j = 4 := by omega
    subst ej
    obtain ⟨fu, rfl⟩ : ∃ g, fu = g + 1 := ⟨fu - 1, by omega⟩
    obtain ⟨s1, s2, s3, s4, s5, s6, s7, s8⟩ := id hS
    have hv' : 0 ≤ v ∧ v ≤ 9999 := by omega
    obtain ⟨S', d1, d2, d3, d4, d5, d6⟩ := m_codes_iz s5 (by omega) (k := 18 + v) (by omega)
    have hm : m_isO_b11 oM N (fu + 1) S (iz v) (iz ((4 : Nat) : Int)) = some (true, S') := by
      rw [m_isO_b11]
      refine iteTE (by decide) ?_
      rw [show (18 : Int32) = iz 18 from rfl, iz_add]
      exact b2E d1 rfl
    by_cases c : 48 ≤ ch M n at_ ∧ ch M n at_ ≤ 57
    · refine ⟨false, at_, 18 + v, S', hm, d2, d3.trans s3, d4.trans s4, d5, d6, by omega, fun _ => c, fun Q m T fx hx hT hm1 hQ => ?_⟩
      obtain ⟨fx, rfl⟩ : ∃ g, fx = g + 1 := ⟨fx - 1, by omega⟩
      obtain ⟨ro, r1, r2, r3, r4, r5, r6⟩ := hT.ob
      rw [r_operand_b179]
      refine iteT (by decide) ?_
      unfold r_operand_b227
      refine iteF (by decide) (bindPE r2 (bindPE (r_here_iz ht hT s6) (bindPE (x_digT ht c) (iteF b2iT (bindPE r2 ⟨m, 0, rfl, wrong_ok hT (fun T' hE hX => hQ T' none hE (Or.inr ⟨rfl, rfl, at_, op, hX⟩))⟩)))))
    · refine ⟨true, at_, 18 + v, S', hm, d2, d3.trans s3, d4.trans s4, d5, d6, by omega, fun z => (by cases z), fun Q m T fx hx hT hm1 hQ => ?_⟩
      obtain ⟨fx, rfl⟩ : ∃ g, fx = g + 1 := ⟨fx - 1, by omega⟩
      obtain ⟨ro, r1, r2, r3, r4, r5, r6⟩ := hT.ob
      rw [r_operand_b179]
      refine iteT (by decide) ?_
      unfold r_operand_b227
      refine iteF (by decide) (bindPE r2 (bindPE (r_here_iz ht hT s6) (bindPE (x_digF ht c) (iteT b2iF ⟨m - 1, by omega, fun q hq => ?_⟩))))
      exact hQ _ _ ((Ext.rf a0 T).new hq _) (Or.inl ⟨rfl, hT.new hq _, q, rfl, mkO 11 [iz v] [], by rw [xO23, if_pos rfl], Or.inr (Or.inl ⟨rfl, v, hv'.1, hv'.2, rfl, rfl⟩)⟩)
  | succ r ih =>
    intro j v S at_ fu hj hS hja hv hd hf
    obtain ⟨fu, rfl⟩ : ∃ g, fu = g + 1 := ⟨fu - 1, by omega⟩
    obtain ⟨s1, s2, s3, s4, s5, s6, s7, s8⟩ := id hS
    have hv' : 0 ≤ v ∧ v ≤ 999 := by
      have : j = 0 ∨ j = 1 ∨ j = 2 ∨ j = 3 := by omega
      rcases this with rfl | rfl | rfl | rfl <;> omega
    have j4 : ¬ (4 : Int32) ≤ iz j := by rw [show (4 : Int32) = iz 4 from rfl, iz_le (by omega)]; omega
    by_cases c : 48 ≤ ch M n at_ ∧ ch M n at_ ≤ 57
    · have atn := (ch_R ht at_).2.2.2.2 (by omega)
      have hS1 : MRd M n (sI S 14 (iz ((at_ + 1 : Nat) : Int))) (at_ + 1) op cd := hS.mv ((KP.rf S).set (Or.inl rfl) _) rfl s4 s5 (by omega) (by omega) s8
      have hv2 : 0 ≤ 10 * v + ch M n at_ - 48 ∧ 10 * v + ch M n at_ - 48 < 10 ^ (j + 1) := by
        rw [Int.pow_succ]; omega
      obtain ⟨ok, at', k, S', e1, e2, e3, e4, e5, e6, e7, e8, e9⟩ := ih (j + 1) _ _ (at_ + 1) fu (by omega) hS1 (by omega) hv2 (Or.inl (by omega)) (by omega)
      refine ⟨ok, at', k, S', ?_, ((KP.rf S).set (Or.inl rfl) _).tr e2, e3, e4, e5, e6.pre rfl, by omega, e8, fun Q m T fx hx hT hm1 hQ => ?_⟩
      · rw [m_isO_b11]
        refine iteFE j4 (bindE (m_digT ht hS c) (iteFE b2iT (chkE s3 (by omega) ?_)))
        have ev : 10 * iz v + S.2.1 7 (S.1 14).toNatClampNeg - 48 = iz (10 * v + ch M n at_ - 48) := by
          rw [s3, iz_clampN (by omega), s2, ma_eq, show (10 : Int32) = iz 10 from rfl, show (48 : Int32) = iz 48 from rfl, iz_mul, iz_add, iz_sub]
          unfold ch
          rw [if_pos atn]
        have e14 : S.1 14 + 1 = iz ((at_ + 1 : Nat) : Int) := by rw [s3, show (1 : Int32) = iz 1 from rfl, iz_add]; rfl
        have ej : iz (j : Int) + 1 = iz ((j + 1 : Nat) : Int) := by rw [show (1 : Int32) = iz 1 from rfl, iz_add]; rfl
        rw [nmE, nmE, nmE, ev, e14, ej]
        exact e1
      · obtain ⟨fx, rfl⟩ : ∃ g, fx = g + 1 := ⟨fx - 1, by omega⟩
        obtain ⟨ro, r1, r2, r3, r4, r5, r6⟩ := hT.ob
        have ev : 10 * iz v + iz (cr M n at_) - 48 = iz (10 * v + ch M n at_ - 48) := by
          rw [cr_of ht (by omega), show (10 : Int32) = iz 10 from rfl, show (48 : Int32) = iz 48 from rfl, iz_mul, iz_add, iz_sub]
        have ej : iz (j : Int) + 1 = iz ((j + 1 : Nat) : Int) := by rw [show (1 : Int32) = iz 1 from rfl, iz_add]; rfl
        rw [r_operand_b179]
        refine iteF j4 (bindPE r2 (bindPE (r_here_iz ht hT s6) (bindPE (x_digT ht c) (iteF b2iT (bindPE r2 (bindPE (r_here_iz ht hT s6) ?_))))))
        rw [ev, ej]
        refine bindPE r2 (bindPE r2 ?_)
        exact e9 Q m _ fx (by omega) (bump hT r1) hm1 (fun T' g hE hO => hQ T' g (((Ext.rf a0 T).own _).tr hE) hO)
    · have j1 : 1 ≤ j := hd.resolve_right c
      obtain ⟨S', d1, d2, d3, d4, d5, d6⟩ := m_codes_iz s5 (by omega) (k := 18 + v) (by omega)
      have hm : m_isO_b11 oM N (fu + 1) S (iz v) (iz j) = some (true, S') := by
        rw [m_isO_b11]
        refine iteFE j4 (bindE (m_digF ht hS c) (iteTE b2iF ?_))
        rw [show (18 : Int32) = iz 18 from rfl, iz_add]
        exact b2E d1 rfl
      refine ⟨true, at_, 18 + v, S', hm, d2, d3.trans s3, d4.trans s4, d5, d6, by omega, fun z => (by cases z), fun Q m T fx hx hT hm1 hQ => ?_⟩
      obtain ⟨fx, rfl⟩ : ∃ g, fx = g + 1 := ⟨fx - 1, by omega⟩
      obtain ⟨ro, r1, r2, r3, r4, r5, r6⟩ := hT.ob
      rw [r_operand_b179]
      refine iteF j4 (bindPE r2 (bindPE (r_here_iz ht hT s6) (bindPE (x_digF ht c) (iteT b2iF ?_))))
      unfold r_operand_b227
      refine iteF (by rw [show (0 : Int32) = iz 0 from rfl, iz_eq (by omega)]; omega) (bindPE r2 (bindPE (r_here_iz ht hT s6) (bindPE (x_digF ht c) (iteT b2iF ⟨m - 1, by omega, fun q hq => ?_⟩))))
      exact hQ _ _ ((Ext.rf a0 T).new hq _) (Or.inl ⟨rfl, hT.new hq _, q, rfl, mkO 11 [iz v] [], by rw [xO23, if_pos rfl], Or.inr (Or.inl ⟨rfl, v, hv'.1, by omega, rfl, rfl⟩)⟩)
end OPERAND
