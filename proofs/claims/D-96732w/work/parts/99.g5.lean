/-! PLAIN LAW: the law's reader: an operand by cases. Own text. -/
set_option maxRecDepth 100000
section OPERAND2
variable {M : MS} {n a0 : Nat} {N : Nat}
/-- neither digit nor name -/
def nameC (x : Int) : Option Int := if x = 118 then some 0 else if x = 117 then some 1 else if x = 109 then some 2 else if x = 100 then some 3 else if x = 112 then some 4 else if x = 110 then some 5 else none
theorem name_ok : ((List.range 258).all fun v => (m_nameOf (iz ((v : Int) - 2)) == some (iz ((nameC ((v : Int) - 2)).getD (-1))))) = true := by decide +kernel
theorem name_at {x : Int} (h : -1 ≤ x ∧ x ≤ 255) : m_nameOf (iz x) = some (iz ((nameC x).getD (-1))) := by
  have q := List.all_eq_true.mp name_ok (x + 2).toNat (List.mem_range.mpr (by omega))
  rw [show (((x + 2).toNat : Nat) : Int) - 2 = x by omega] at q
  exact eq_of_beq q
theorem nameC_R {x k : Int} (h : nameC x = some k) : 0 ≤ k ∧ k ≤ 5 ∧ x = letterOf k ∧ x ∈ litC 0 ∧ 100 ≤ x ∧ x ≤ 118 := by
  unfold nameC at h
  by_cases c0 : x = 118
  · rw [if_pos c0] at h; cases h; subst c0; decide
  rw [if_neg c0] at h
  by_cases c1 : x = 117
  · rw [if_pos c1] at h; cases h; subst c1; decide
  rw [if_neg c1] at h
  by_cases c2 : x = 109
  · rw [if_pos c2] at h; cases h; subst c2; decide
  rw [if_neg c2] at h
  by_cases c3 : x = 100
  · rw [if_pos c3] at h; cases h; subst c3; decide
  rw [if_neg c3] at h
  by_cases c4 : x = 112
  · rw [if_pos c4] at h; cases h; subst c4; decide
  rw [if_neg c4] at h
  by_cases c5 : x = 110
  · rw [if_pos c5] at h; cases h; subst c5; decide
  rw [if_neg c5] at h; cases h
theorem nameC_N {x : Int} (h : nameC x = none) : x ∉ litC 0 := by
  unfold nameC at h
  by_cases c0 : x = 118
  · rw [if_pos c0] at h; cases h
  rw [if_neg c0] at h
  by_cases c1 : x = 117
  · rw [if_pos c1] at h; cases h
  rw [if_neg c1] at h
  by_cases c2 : x = 109
  · rw [if_pos c2] at h; cases h
  rw [if_neg c2] at h
  by_cases c3 : x = 100
  · rw [if_pos c3] at h; cases h
  rw [if_neg c3] at h
  by_cases c4 : x = 112
  · rw [if_pos c4] at h; cases h
  rw [if_neg c4] at h
  by_cases c5 : x = 110
  · rw [if_pos c5] at h; cases h
  simp [litC, c0, c1, c2, c3, c4, c5]
theorem litC0_dg {x : Int} (h : x ∈ litC 0) : 100 ≤ x ∧ x ≤ 118 := by
  simp [litC] at h
  omega
/-- the head of the component's operand -/
theorem r_head (ht : Tape M n) {Q : rQ} {o : rO} {m : Nat} {T : XS} {at_ op : Nat} {fa : Int} (hT : RdX M n a0 T at_ fa op) (hat : at_ ≤ n) (hn : nameC (ch M n at_) = none)
    (h33 : ch M n at_ = 33 → r_operand_b45 Q o N a0 33 m T) (h45 : ch M n at_ = 45 → r_operand_b45 Q o N a0 45 m T)
    (h40 : ch M n at_ = 40 → b2P (r_opens T a0) fun v10 T11 =>
  (if (b2i v10) = 0 then
  bindP (getO T11 a0 5) fun _ =>
  splP m fun m49 _ =>
  r_wrong (fun v48 T53 =>
  Q v48 T53) a0 m49 T11 
  else
  bindP (getO T11 a0 5) fun _ =>
  splP m fun m17 m18 =>
  r_either (fun v16 T21 =>
  bindP (getO T21 a0 5) fun q22 =>
  (if (q22.2.1 1) < 0 then
  bindP (getO T21 a0 5) fun _ =>
  bindP (r_here T21 a0) fun v25 =>
  (if v25 = 41 then
  bindP (getO T21 a0 5) fun q28 =>
  bindP (getO T21 a0 5) fun q30 =>
  nmP (xO T21 a0 (oI q30 0 ((q28.2.1 0) + 1))) fun T32 =>
  bindP (getO T32 a0 5) fun q33 =>
  bindP (getO T32 a0 5) fun q35 =>
  nmP (xO T32 a0 (oI q35 2 ((q33.2.1 2) - 1))) fun T37 =>
  Q v16 T37
  else
  bindP (getO T21 a0 5) fun _ =>
  splP m18 fun m41 _ =>
  r_wrong (fun v40 T45 =>
  Q v40 T45) a0 m41 T21 )
  else
  Q none T21)) o N a0 m17 T11 ))
    (hd : ch M n at_ ≠ 33 → ch M n at_ ≠ 45 → ch M n at_ ≠ 40 → r_operand_b179 Q o N a0 N m T 0 0) : r_operand Q o N a0 m T := by
  obtain ⟨ro, r1, r2, -⟩ := hT.ob
  have cn : cr M n at_ ∉ litC 0 := cr_in ht (fun x hx => by have := litC0_dg hx; omega) (nameC_N hn)
  unfold r_operand
  refine bindPE r2 (bindPE (r_here_iz ht hT hat) (bindPE r2 (bindPE (r_one_iz ht hT hat (i := 0) (by decide)) ?_)))
  rw [decide_eq_false cn]
  refine iteT b2iF ?_
  by_cases c33 : ch M n at_ = 33
  · have e : iz (cr M n at_) = 33 := (cr_eq ht (c := 33) (by omega)).mpr c33
    refine iteT e ?_
    rw [e]
    exact h33 c33
  refine iteF (fun e => c33 ((cr_eq ht (c := 33) (by omega)).mp e)) ?_
  by_cases c45 : ch M n at_ = 45
  · have e : iz (cr M n at_) = 45 := (cr_eq ht (c := 45) (by omega)).mpr c45
    refine iteT e ?_
    rw [e]
    exact h45 c45
  refine iteF (fun e => c45 ((cr_eq ht (c := 45) (by omega)).mp e)) ?_
  by_cases c40 : ch M n at_ = 40
  · exact iteT ((cr_eq ht (c := 40) (by omega)).mpr c40) (bindPE r2 (h40 c40))
  exact iteF (fun e => c40 ((cr_eq ht (c := 40) (by omega)).mp e)) (hd c33 c45 c40)
theorem r_nodigit (ht : Tape M n) {Q : rQ} {o : rO} {m : Nat} {T : XS} {at_ op : Nat} (hN : 200 ≤ N) (hT : RdX M n a0 T at_ (-1) op) (hat : at_ ≤ n) (hd : ¬ (48 ≤ ch M n at_ ∧ ch M n at_ ≤ 57)) (hQ : ∀ T', Ext a0 T T' → RdX M n a0 T' at_ at_ op → Q none T') : r_operand_b179 Q o N a0 N m T 0 0 := by
  obtain ⟨N', hN'⟩ : ∃ g, N = g + 1 := ⟨N - 1, by omega⟩
  obtain ⟨ro, r1, r2, -⟩ := hT.ob
  have key : ∀ K : Nat, r_operand_b179 Q o N a0 (K + 1) m T 0 0 := fun K => by
    rw [r_operand_b179]
    refine iteF (by decide) (bindPE r2 (bindPE (r_here_iz ht hT hat) (bindPE (x_digF ht hd) (iteT b2iF ?_))))
    unfold r_operand_b227
    exact iteT rfl (bindPE r2 ⟨m, 0, rfl, wrong_ok hT hQ⟩)
  have := key N'
  rw [← hN'] at this
  exact this
/-- a reference's false, the component's fault at the place -/
theorem bad_spec {S S' : MS} {at_ op cd : Nat} {rM : MS → Option (Bool × MS)} {rR : rQ → Nat → XS → Prop} (hat : at_ ≤ n) (hm : rM S = some (false, S')) (hk : KP S S') (h14 : S'.1 14 = iz at_) (hr : ∀ (Q : rQ) (m : Nat) (T : XS), RdX M n a0 T at_ (-1) op → (∀ T' (op2 : Nat), Ext a0 T T' → RdX M n a0 T' at_ at_ op2 → Q none T') → rR Q m T) : SSpec M n a0 rM rR S at_ op cd :=
  ⟨false, false, at_, [], S', hm, ⟨hk, h14, by omega, fun z => (by cases z), fun z => (by cases z), fun z => (by cases z)⟩, fun z => (by cases z), fun Q m T hT _ hQ => hr Q m T hT (fun T' op2 hE hX => hQ T' none hE (Or.inr ⟨rfl, rfl, at_, op2, hX⟩))⟩
/-- a name -/
theorem name_spec (ht : Tape M n) {d : Nat} {S : MS} {at_ op cd : Nat} (hS : MRd M n S at_ op cd) {k : Int} (hk : nameC (ch M n at_) = some k) {o : rO} : SSpec M n a0 (m_isO N (d + 1)) (fun Q m T => r_operand Q o N a0 m T) S at_ op cd := by
  obtain ⟨s1, s2, s3, s4, s5, s6, s7, s8⟩ := id hS
  obtain ⟨k0, k5, kl, km, k6, k7⟩ := nameC_R hk
  have n120 := ht.2.1
  have atn := (ch_R ht at_).2.2.2.2 (by omega)
  have e14 : S.1 14 + 1 = iz ((at_ + 1 : Nat) : Int) := by rw [s3, show (1 : Int32) = iz 1 from rfl, iz_add]; rfl
  have hS1 : MRd M n (sI S 14 (iz ((at_ + 1 : Nat) : Int))) (at_ + 1) op cd := hS.mv ((KP.rf S).set (Or.inl rfl) _) rfl s4 s5 (by omega) (by omega) s8
  obtain ⟨S', d1, d2, d3, d4, d5, d6⟩ := m_codes_iz hS1.2.2.2.2.1 (by omega) (k := k) (by omega)
  refine ⟨true, true, at_ + 1, [k], S', ?_, ⟨((KP.rf S).set (Or.inl rfl) _).tr d2, d3, by omega, fun _ => ⟨d4.trans s4, d5, by simp, d6.pre rfl⟩, fun _ z => (by cases z), fun _ => rfl⟩, fun _ => by omega, fun Q m T hT hm hQ => ?_⟩
  · rw [m_isO]
    refine bindE (m_digF ht hS (by omega)) (iteTE b2iF (bindE (m_sign_iz ht hS) (bindE (name_at (ch_R ht at_).1) ?_)))
    rw [hk]
    refine iteFE (by rw [show (0 : Int32) = iz 0 from rfl, iz_lt (by show _ ∧ _; simp only [Option.getD_some]; omega)]; simp only [Option.getD_some]; omega) ?_
    rw [nmE, e14]
    exact b2E d1 rfl
  · obtain ⟨ro, r1, r2, r3, r4, r5, r6⟩ := hT.ob
    have ec : cr M n at_ = ch M n at_ := cr_of ht (by omega)
    show r_operand Q o N a0 m T
    unfold r_operand
    refine bindPE r2 (bindPE (r_here_iz ht hT s6) (bindPE r2 (bindPE (r_one_iz ht hT s6 (i := 0) (by decide)) ?_)))
    rw [decide_eq_true (by rw [ec]; exact km)]
    refine iteF b2iT (bindPE r2 (bindPE r2 ⟨m - 1, by omega, fun q hq => ?_⟩))
    have hX := bump hT r1
    refine hQ _ _ (((Ext.rf a0 T).own _).new hq _) (Or.inl ⟨rfl, hX.new hq _, q, rfl, ?_⟩)
    rw [show at_ + 1 - at_ = 0 + 1 by omega]
    exact ⟨mkO 8 [iz (cr M n at_)] [], by rw [xO23, if_pos rfl], Or.inl ⟨rfl, k, k0, k5, rfl, by rw [ec, kl]; rfl⟩⟩
/-- a number -/
theorem num_spec (ht : Tape M n) (hN : 200 ≤ N) {d : Nat} {S : MS} {at_ op cd : Nat} (hS : MRd M n S at_ op cd) (hd : 48 ≤ ch M n at_ ∧ ch M n at_ ≤ 57) {o : rO} : SSpec M n a0 (m_isO N (d + 1)) (fun Q m T => r_operand Q o N a0 m T) S at_ op cd := by
  obtain ⟨s1, s2, s3, s4, s5, s6, s7, s8⟩ := id hS
  have n120 := ht.2.1
  have hn : nameC (ch M n at_) = none := by
    cases h : nameC (ch M n at_) with
    | none => rfl
    | some k => have := nameC_R h; omega
  obtain ⟨ok, at', c, S', e1, e2, e3, e4, e5, e6, e7, e8, e9⟩ := dig_spec (a0 := a0) (N := N) (oM := m_isO N d) (oR := o) (op := op) (cd := cd) ht (by omega) 4 0 0 S at_ N (by decide) hS (by omega) (by decide) (Or.inr hd) (by omega)
  refine ⟨true, ok, at', [c], S', ?_, ⟨e2, e3, by omega, fun _ => ⟨e4, e5, by show at_ + 1 ≤ at'; omega, e6⟩, fun _ z => e8 z, fun _ => rfl⟩, fun _ => by omega, fun Q m T hT hm hQ => ?_⟩
  · rw [m_isO]
    exact bindE (m_digT ht hS hd) (iteFE b2iT e1)
  · refine r_head ht hT s6 hn (fun e => by omega) (fun e => by omega) (fun e => by omega) (fun _ _ _ => ?_)
    refine e9 Q m T N (by omega) hT (by omega) (fun T' g hE hO => hQ T' g hE ?_)
    rcases hO with ⟨y1, y2, q, y3, y4⟩ | y
    · exact Or.inl ⟨y1, y2, q, y3, y4.to (by omega)⟩
    · exact Or.inr y
end OPERAND2
