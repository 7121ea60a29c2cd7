/-! String.indexOf(int) OF A CONSTANT OF ONE-BYTE CHARACTERS. Own text, printed by js.py. -/
set_option maxRecDepth 100000
section JS
variable {κ : jK} {Γ : jG} {σ : jS} {nL : Nat} {w : jW} {k n : Nat} {pc : Nat} {L : List (Option Value)} {st : List Value} {cc : ByteArray} {own : String} {ret : Option FieldType}
theorem j_bret (C : jC κ Γ cc nL own (some .byte)) {v : Int32} (hz : narrow .byte (.int v) = .int v) (hd : decode cc pc = .ok (.ireturn, 1)) (hk : k ≤ σ.2.1) (hn : n ≤ σ.2.2.1) (hp : σ.2.2.2 (some (.int v)) w) : J κ Γ σ nL w k n pc L [.int v] := by
  obtain ⟨p, e, s, m, args, below, meth, c, A⟩ := Γ
  obtain ⟨hx, hb, hml, hown, hts, hA, hK, -, -, -, -, hlocks, hr⟩ := C
  intro H locs ls hP hD hS hl
  refine W.widen (k := σ.2.1) (n := σ.2.2.1) hk hn ?_
  exact W.zret (v := v) hx hb hr hz (fun t ht hW => ⟨⟨_, w, rfl, hp, by rw [ht]; exact hP, hD⟩, hS.F ht⟩) hS.2.2 hd
/-- a call on a constant -/
theorem j_callVC (hκ : jOK κ) (C : jC κ Γ cc nL own ret) {y : MethodName} {b2 : ByteArray} {maxL f index N : Nat} {r2 : Option FieldType} {As : List Value} {a ci r : Nat} {fs : List Value} {q : vw_C} {x : Option Value}
    (hM : jM κ y (ws_ y b2 maxL r2) f 0 0 (.ref a :: As) w (fun u w' => u = x ∧ w' = w)) (hG : GoodIn lw_all (wsV own index y.cls y (ws_ y b2 maxL r2))) (hy : y.cls ≠ "java/lang/invoke/MethodHandle" ∧ y.cls ≠ "java/lang/invoke/VarHandle" ∧ (parseMethodDescriptor y.desc).map (fun d => d.parameters.length) = some N) (hn : As.length = N)
    (he : κ.2.2.2.2.1 r = some (a, .inr (ci, fs))) (hc : κ.2.2.1[ci]? = some q) (hq : q.1 = y.cls) (hd : decode cc pc = .ok (.invokevirtual index, 3)) (hfit : jfit σ f 0 0 k n maxL st) {st0 : List Value} (hst : st0 = As.reverse ++ .ref a :: st)
    (h : J κ Γ σ nL w k n (pc + 3) L (x.toList ++ st)) : J κ Γ σ nL w k n pc L st0 := by
  obtain ⟨p, e, s, m, args, below, meth, c, A⟩ := Γ
  intro H locs ls hP hD hS hl
  have hpre := j_pre hκ C hP hD hS (.ref a :: As)
  have hPc := jcP C hS
  obtain ⟨hx, hb, hml, hown, hts, hA, hK, -⟩ := C
  obtain ⟨f1, f2, f3, f4, f5⟩ := hfit
  refine j_back hA hP hD hS hl (va_runV (C := y.cls) (As := As) (b := a) (rest := st) ⟨hx, hb, hml, hown, hts⟩ (hM H.size) (cwV N hts hG rfl rfl rfl ⟨rfl, hy⟩ ⟨f1, ?_⟩) ⟨hpre.1, ?_, hpre.2⟩ rfl hn hl.1 hst (lv_room f5) hd ⟨f3, f4⟩) (fun v w' hp => by obtain ⟨rfl, rfl⟩ := hp; exact h)
  · show 8 + (maxL + 11) + 48 * f ≤ 48 * σ.1
    omega
  · obtain ⟨q', cell, h1, g1, g2, g3, -⟩ := hPc r _ he
    have e2 : q' = q := Option.some.inj (h1.symm.trans hc)
    exact ⟨cell, g1, g3, by rw [g2, ← hq, ← e2]; exact (hK.1 ci q' h1).2.1⟩
end JS
/-- a literal and its bytes among the constants -/
def jcA (κ : jK) (rv : Nat) : ClassId := match κ.2.2.2.2.1 rv with
  | some (_, .inl x) => x.1
  | _ => 0
def jLit (κ : jK) (rs rv a av N : Nat) (f : Nat → Int32) : Prop := κ.2.2.2.2.1 rs = some (a, .inr (ciJ4, [.ref av, .int 0])) ∧ κ.2.2.2.2.1 rv = some (av, .inl (jcA κ rv, N, .inl f)) ∧ N < 2 ^ 31 ∧ ∀ U : State, κ.2.2.2.2.2 U → ArrOfT U (jcA κ rv) .byte
theorem mt_s_coder {κ : jK} (hκ : jX κ) {rs rv a av N : Nat} {f : Nat → Int32} (hl : jLit κ rs rv a av N f) (w : jW) : jM κ yJ4_coder (ws_ yJ4_coder cJ4_coder 1 (some .byte)) 0 0 0 [.ref a] w (fun u w' => u = some (.int 0) ∧ w' = w) := by
  refine jM.of (by decide) rfl (Nat.le_of_ble_eq_true rfl) fun Γ C _ => ?_
  show J κ Γ (0, 0, 0, (fun u w' => u = some (.int 0) ∧ w' = w)) 1 w 0 0 0 [some (.ref a)] []
  refine j_compact C q678 dJ4_coder_0 ?_
  refine j_if_eq C dJ4_coder_3 (tgt := 13) (by decide) (fun c => by cases c) (fun _ => ?_)
  refine j_aload_n C dJ4_coder_6 rfl rfl ?_
  refine j_getC C in_J4 rs hl.1 (hκ.cl rfl) 1 (by decide) q2279 rfl rfl dJ4_coder_7 ?_
  refine j_goto C dJ4_coder_10 (tgt := 14) (by decide) ?_
  exact j_bret C rfl dJ4_coder_14 (Nat.zero_le _) (Nat.zero_le _) ⟨rfl, rfl⟩
theorem mt_s_length {κ : jK} (hκ : jX κ) {rs rv a av N : Nat} {f : Nat → Int32} (hl : jLit κ rs rv a av N f) (w : jW) : jM κ yJ4_length (ws_ yJ4_length cJ4_length 1 (some .int)) 1 0 0 [.ref a] w (fun u w' => u = some (.int (Int32.ofNat N)) ∧ w' = w) := by
  refine jM.of (by decide) rfl (Nat.le_of_ble_eq_true rfl) fun Γ C _ => ?_
  show J κ Γ (1, 0, 0, (fun u w' => u = some (.int (Int32.ofNat N)) ∧ w' = w)) 1 w 0 0 0 [some (.ref a)] []
  refine j_aload_n C dJ4_length_0 rfl rfl ?_
  refine j_getC C in_J4 rs hl.1 (hκ.cl rfl) 0 (by decide) q2280 rfl rfl dJ4_length_1 ?_
  refine j_alenC C rv hl.2.1 hl.2.2.2 (v := Int32.ofNat N) rfl dJ4_length_4 ?_
  refine j_aload_n C dJ4_length_5 rfl rfl ?_
  refine j_callVC hκ.1.1 C (mt_s_coder hκ hl w) (lw_V q684 q685 q686 q121 q687) ⟨by decide, by decide, by decide +kernel⟩ rfl hl.1 (hκ.cl rfl) rfl dJ4_length_6 ⟨Nat.le_of_ble_eq_true rfl, by decide, Nat.le_of_ble_eq_true rfl, Nat.le_of_ble_eq_true rfl, Nat.le_of_ble_eq_true rfl⟩ rfl ?_
  refine j_ishr C dJ4_length_9 ?_
  have e : (Int32.ofNat N) >>> ((0 : Int32) &&& 31) = Int32.ofNat N := by
    show (Int32.ofNat N) >>> (0 : Int32) = _
    simp
  rw [e]
  exact j_iret C dJ4_length_10 (Nat.zero_le _) (Nat.zero_le _) ⟨rfl, rfl⟩
theorem mt_s_isLatin1 {κ : jK} (hκ : jX κ) {rs rv a av N : Nat} {f : Nat → Int32} (hl : jLit κ rs rv a av N f) (w : jW) : jM κ yJ4_isLatin1 (ws_ yJ4_isLatin1 cJ4_isLatin1 1 (some .boolean)) 0 0 0 [.ref a] w (fun u w' => u = some (.int 1) ∧ w' = w) := by
  refine jM.of (by decide) rfl (Nat.le_of_ble_eq_true rfl) fun Γ C _ => ?_
  show J κ Γ (0, 0, 0, (fun u w' => u = some (.int 1) ∧ w' = w)) 1 w 0 0 0 [some (.ref a)] []
  refine j_compact C q678 dJ4_isLatin1_0 ?_
  refine j_if_eq C dJ4_isLatin1_3 (tgt := 17) (by decide) (fun c => by cases c) (fun _ => ?_)
  refine j_aload_n C dJ4_isLatin1_6 rfl rfl ?_
  refine j_getC C in_J4 rs hl.1 (hκ.cl rfl) 1 (by decide) q2279 rfl rfl dJ4_isLatin1_7 ?_
  refine j_if_ne C dJ4_isLatin1_10 (tgt := 17) (by decide) (fun c => absurd rfl c) (fun _ => ?_)
  refine j_iconst C (v := 1) dJ4_isLatin1_13 rfl ?_
  refine j_goto C dJ4_isLatin1_14 (tgt := 18) (by decide) ?_
  exact j_zret C rfl dJ4_isLatin1_18 (Nat.zero_le _) (Nat.zero_le _) ⟨rfl, rfl⟩
/-- the first place from i on, below hi, where b stands -/
def s_ix (N : Nat) (f : Nat → Int32) (b hi : Int32) : Nat → Int32 → Option Int32
  | 0, _ => none
  | n + 1, i => if hi ≤ i then some (-1) else chk N i (if f i.toNatClampNeg = b then some i else s_ix N f b hi n (i + 1))
theorem ws_ix {κ : jK} (hκ : jX κ) {rs rv a av N : Nat} {f : Nat → Int32} (hl : jLit κ rs rv a av N f) {w : jW} {Γ : jG} (C : jC κ Γ cJ8_indexOfChar 6 RJ8 (some .int)) (b hi : Int32) {v : Int32} : ∀ (n : Nat) (i : Int32), s_ix N f b hi n i = some v → J κ Γ (0, 0, 0, (fun u w' => u = some (.int v) ∧ w' = w)) 6 w 0 0 7 [some (.ref av), none, none, some (.int hi), some (.int b), some (.int i)] [] := by
  intro n
  induction n with
  | zero => intro i h; cases h
  | succ n ih =>
    intro i h
    rw [s_ix] at h
    refine j_iload C dJ8_indexOfChar_7 rfl ?_
    refine j_iload_n C dJ8_indexOfChar_9 rfl rfl ?_
    refine j_icmp_ge C dJ8_indexOfChar_10 (tgt := 31) (by decide) (fun c => ?_) (fun c => ?_)
    · replace h := ip c h
      refine j_iconst C (v := -1) dJ8_indexOfChar_31 rfl ?_
      obtain rfl := sp1 h
      exact j_iret C dJ8_indexOfChar_32 (Nat.zero_le _) (Nat.zero_le _) ⟨rfl, rfl⟩
    replace h := im c h
    obtain ⟨hb, h⟩ := chk_some h
    refine j_aload_n C dJ8_indexOfChar_13 rfl rfl ?_
    refine j_iload C dJ8_indexOfChar_14 rfl ?_
    refine j_baldC C rv hl.2.1 hl.2.2.2 hb dJ8_indexOfChar_16 ?_
    refine j_iload C dJ8_indexOfChar_17 rfl ?_
    refine j_icmp_ne C dJ8_indexOfChar_19 (tgt := 25) (by decide) (fun c => ?_) (fun c => ?_)
    · replace h := im c h
      refine j_iinc C (i + 1) dJ8_indexOfChar_25 rfl rfl (by decide) rfl ?_
      refine j_goto C dJ8_indexOfChar_28 (tgt := 7) (by decide) ?_
      exact ih (i + 1) h
    have c' : f i.toNatClampNeg = b := by
      by_cases hq : f i.toNatClampNeg = b
      · exact hq
      · exact absurd c (by simpa using hq)
    replace h := ip c' h
    refine j_iload C dJ8_indexOfChar_22 rfl ?_
    obtain rfl := sp1 h
    exact j_iret C dJ8_indexOfChar_24 (Nat.zero_le _) (Nat.zero_le _) ⟨rfl, rfl⟩
theorem mt_s_indexOfChar {κ : jK} (hκ : jX κ) {rs rv a av N : Nat} {f : Nat → Int32} (hl : jLit κ rs rv a av N f) (w : jW) {c lo hi v : Int32} {n : Nat} (h : s_ix N f c.toInt8.toInt32 hi n lo = some v) : jM κ yJ8_indexOfChar (ws_ yJ8_indexOfChar cJ8_indexOfChar 6 (some .int)) 0 0 0 [.ref av, .int c, .int lo, .int hi] w (fun u w' => u = some (.int v) ∧ w' = w) := by
  refine jM.of (by decide) rfl (Nat.le_of_ble_eq_true rfl) fun Γ C _ => ?_
  show J κ Γ (0, 0, 0, (fun u w' => u = some (.int v) ∧ w' = w)) 6 w 0 0 0 [some (.ref av), some (.int c), some (.int lo), some (.int hi), none, none] []
  refine j_iload_n C dJ8_indexOfChar_0 rfl rfl ?_
  refine j_i2b C dJ8_indexOfChar_1 ?_
  refine j_istore C dJ8_indexOfChar_2 (by decide) rfl ?_
  refine j_iload_n C dJ8_indexOfChar_4 rfl rfl ?_
  refine j_istore C dJ8_indexOfChar_5 (by decide) rfl ?_
  exact j_sub (ws_ix hκ hl C c.toInt8.toInt32 hi n lo h) ⟨rfl, ⟨rfl, ⟨rfl, ⟨rfl, trivial⟩⟩⟩⟩
theorem mt_s_canEncode {κ : jK} (w : jW) (c : Int32) : jM κ yJ8_canEncode (ws_ yJ8_canEncode cJ8_canEncode 1 (some .boolean)) 0 0 0 [.int c] w (fun u w' => u = some (.int (if c < 0 then 0 else if 255 < c then 0 else 1)) ∧ w' = w) := by
  refine jM.of (by decide) rfl (Nat.le_of_ble_eq_true rfl) fun Γ C _ => ?_
  show J κ Γ (0, 0, 0, (fun u w' => u = some (.int (if c < 0 then 0 else if 255 < c then 0 else 1)) ∧ w' = w)) 1 w 0 0 0 [some (.int c)] []
  refine j_iload_n C dJ8_canEncode_0 rfl rfl ?_
  refine j_if_lt C dJ8_canEncode_1 (tgt := 15) (by decide) (fun h => ?_) (fun h => ?_)
  · rw [if_pos h]
    refine j_iconst C (v := 0) dJ8_canEncode_15 rfl ?_
    exact j_zret C rfl dJ8_canEncode_16 (Nat.zero_le _) (Nat.zero_le _) ⟨rfl, rfl⟩
  rw [if_neg h]
  refine j_iload_n C dJ8_canEncode_4 rfl rfl ?_
  refine j_sipush C (v := 255) dJ8_canEncode_5 rfl ?_
  refine j_icmp_gt C dJ8_canEncode_8 (tgt := 15) (by decide) (fun h => ?_) (fun h => ?_)
  · rw [if_pos h]
    refine j_iconst C (v := 0) dJ8_canEncode_15 rfl ?_
    exact j_zret C rfl dJ8_canEncode_16 (Nat.zero_le _) (Nat.zero_le _) ⟨rfl, rfl⟩
  rw [if_neg h]
  refine j_iconst C (v := 1) dJ8_canEncode_11 rfl ?_
  refine j_goto C dJ8_canEncode_12 (tgt := 16) (by decide) ?_
  exact j_zret C rfl dJ8_canEncode_16 (Nat.zero_le _) (Nat.zero_le _) ⟨rfl, rfl⟩
/-- what indexOf answers of a literal -/
def s_find (N : Nat) (f : Nat → Int32) (c : Int32) : Option Int32 := if c < 0 then some (-1) else if 255 < c then some (-1) else s_ix N f c.toInt8.toInt32 (Int32.ofNat N) (N + 1) 0
theorem mt_s_l1 {κ : jK} (hκ : jX κ) {rs rv a av N : Nat} {f : Nat → Int32} (hl : jLit κ rs rv a av N f) (hp : (0 : Int32) < Int32.ofNat N) (w : jW) {c v : Int32} (h : s_find N f c = some v) : jM κ yJ8_indexOf (ws_ yJ8_indexOf cJ8_indexOf 4 (some .int)) 1 0 0 [.ref av, .int c, .int 0, .int (Int32.ofNat N)] w (fun u w' => u = some (.int v) ∧ w' = w) := by
  rw [s_find] at h
  refine jM.of (by decide) rfl (Nat.le_of_ble_eq_true rfl) fun Γ C _ => ?_
  show J κ Γ (1, 0, 0, (fun u w' => u = some (.int v) ∧ w' = w)) 4 w 0 0 0 [some (.ref av), some (.int c), some (.int 0), some (.int (Int32.ofNat N))] []
  refine j_iload_n C dJ8_indexOf_0 rfl rfl ?_
  refine j_Si hκ.1.1 C (mt_s_canEncode w c) (lw_S q691 q692 q128 q693) (N := 1) ⟨by decide, by decide, by decide +kernel⟩ rfl dJ8_indexOf_1 ⟨Nat.le_of_ble_eq_true rfl, by decide, Nat.le_of_ble_eq_true rfl, Nat.le_of_ble_eq_true rfl, Nat.le_of_ble_eq_true rfl⟩ rfl ?_
  by_cases h1 : c < 0
  · rw [if_pos h1]
    replace h := ip h1 h
    refine j_if_ne C dJ8_indexOf_4 (tgt := 9) (by decide) (fun c => absurd rfl c) (fun _ => ?_)
    refine j_iconst C (v := -1) dJ8_indexOf_7 rfl ?_
    obtain rfl := sp1 h
    exact j_iret C dJ8_indexOf_8 (Nat.zero_le _) (Nat.zero_le _) ⟨rfl, rfl⟩
  rw [if_neg h1]
  replace h := im h1 h
  by_cases h2 : 255 < c
  · rw [if_pos h2]
    replace h := ip h2 h
    refine j_if_ne C dJ8_indexOf_4 (tgt := 9) (by decide) (fun c => absurd rfl c) (fun _ => ?_)
    refine j_iconst C (v := -1) dJ8_indexOf_7 rfl ?_
    obtain rfl := sp1 h
    exact j_iret C dJ8_indexOf_8 (Nat.zero_le _) (Nat.zero_le _) ⟨rfl, rfl⟩
  rw [if_neg h2]
  replace h := im h2 h
  refine j_if_ne C dJ8_indexOf_4 (tgt := 9) (by decide) (fun _ => ?_) (fun c => absurd c (by decide : ¬ (1 : Int32) = 0))
  refine j_iload_n C dJ8_indexOf_9 rfl rfl ?_
  refine j_iconst C (v := 0) dJ8_indexOf_10 rfl ?_
  refine j_mmax C dJ8_indexOf_11 q694 q695 q129 q696 (Nat.le_of_ble_eq_true rfl) (Nat.le_of_ble_eq_true rfl) (Nat.zero_le _) (Nat.zero_le _) ?_
  rw [show jmax 0 0 = 0 from by decide]
  refine j_istore_n C dJ8_indexOf_14 rfl (by decide) rfl ?_
  refine j_iload_n C dJ8_indexOf_15 rfl rfl ?_
  refine j_aload_n C dJ8_indexOf_16 rfl rfl ?_
  refine j_alenC C rv hl.2.1 hl.2.2.2 (v := Int32.ofNat N) rfl dJ8_indexOf_17 ?_
  refine j_mmin C dJ8_indexOf_18 q697 q698 q129 q699 (Nat.le_of_ble_eq_true rfl) (Nat.le_of_ble_eq_true rfl) (Nat.zero_le _) (Nat.zero_le _) ?_
  rw [show jmin (Int32.ofNat N) (Int32.ofNat N) = Int32.ofNat N from by unfold jmin; split <;> rfl]
  refine j_istore_n C dJ8_indexOf_21 rfl (by decide) rfl ?_
  refine j_iload_n C dJ8_indexOf_22 rfl rfl ?_
  refine j_iload_n C dJ8_indexOf_23 rfl rfl ?_
  refine j_icmp_lt C dJ8_indexOf_24 (tgt := 29) (by decide) (fun _ => ?_) (fun c => absurd hp c)
  refine j_aload_n C dJ8_indexOf_29 rfl rfl ?_
  refine j_iload_n C dJ8_indexOf_30 rfl rfl ?_
  refine j_iload_n C dJ8_indexOf_31 rfl rfl ?_
  refine j_iload_n C dJ8_indexOf_32 rfl rfl ?_
  refine j_Si hκ.1.1 C (mt_s_indexOfChar hκ hl w h) (lw_S q700 q701 q128 q702) (N := 4) ⟨by decide, by decide, by decide +kernel⟩ rfl dJ8_indexOf_33 ⟨Nat.le_of_ble_eq_true rfl, by decide, Nat.le_of_ble_eq_true rfl, Nat.le_of_ble_eq_true rfl, Nat.le_of_ble_eq_true rfl⟩ rfl ?_
  exact j_iret C dJ8_indexOf_36 (Nat.zero_le _) (Nat.zero_le _) ⟨rfl, rfl⟩
theorem mt_s_indexOf2 {κ : jK} (hκ : jX κ) {rs rv a av N : Nat} {f : Nat → Int32} (hl : jLit κ rs rv a av N f) (hp : (0 : Int32) < Int32.ofNat N) (w : jW) {c v : Int32} (h : s_find N f c = some v) : jM κ yJ4_indexOf_2 (ws_ yJ4_indexOf_2 cJ4_indexOf_2 3 (some .int)) 2 0 0 [.ref a, .int c, .int 0] w (fun u w' => u = some (.int v) ∧ w' = w) := by
  refine jM.of (by decide) rfl (Nat.le_of_ble_eq_true rfl) fun Γ C _ => ?_
  show J κ Γ (2, 0, 0, (fun u w' => u = some (.int v) ∧ w' = w)) 3 w 0 0 0 [some (.ref a), some (.int c), some (.int 0)] []
  refine j_aload_n C dJ4_indexOf_2_0 rfl rfl ?_
  refine j_callVC hκ.1.1 C (mt_s_isLatin1 hκ hl w) (lw_V q674 q675 q676 q121 q677) (N := 0) ⟨by decide, by decide, by decide +kernel⟩ rfl hl.1 (hκ.cl rfl) rfl dJ4_indexOf_2_1 ⟨Nat.le_of_ble_eq_true rfl, by decide, Nat.le_of_ble_eq_true rfl, Nat.le_of_ble_eq_true rfl, Nat.le_of_ble_eq_true rfl⟩ rfl ?_
  refine j_if_eq C dJ4_indexOf_2_4 (tgt := 23) (by decide) (fun c => by cases c) (fun _ => ?_)
  refine j_aload_n C dJ4_indexOf_2_7 rfl rfl ?_
  refine j_getC C in_J4 rs hl.1 (hκ.cl rfl) 0 (by decide) q2280 rfl rfl dJ4_indexOf_2_8 ?_
  refine j_iload_n C dJ4_indexOf_2_11 rfl rfl ?_
  refine j_iload_n C dJ4_indexOf_2_12 rfl rfl ?_
  refine j_aload_n C dJ4_indexOf_2_13 rfl rfl ?_
  refine j_callVC hκ.1.1 C (mt_s_length hκ hl w) (lw_V q680 q681 q682 q121 q683) (N := 0) ⟨by decide, by decide, by decide +kernel⟩ rfl hl.1 (hκ.cl rfl) rfl dJ4_indexOf_2_14 ⟨Nat.le_of_ble_eq_true rfl, by decide, Nat.le_of_ble_eq_true rfl, Nat.le_of_ble_eq_true rfl, Nat.le_of_ble_eq_true rfl⟩ rfl ?_
  refine j_Si hκ.1.1 C (mt_s_l1 hκ hl hp w h) (lw_S q688 q689 q128 q690) (N := 4) ⟨by decide, by decide, by decide +kernel⟩ rfl dJ4_indexOf_2_17 ⟨Nat.le_of_ble_eq_true rfl, by decide, Nat.le_of_ble_eq_true rfl, Nat.le_of_ble_eq_true rfl, Nat.le_of_ble_eq_true rfl⟩ rfl ?_
  refine j_goto C dJ4_indexOf_2_20 (tgt := 36) (by decide) ?_
  exact j_iret C dJ4_indexOf_2_36 (Nat.zero_le _) (Nat.zero_le _) ⟨rfl, rfl⟩
theorem mt_s_indexOf {κ : jK} (hκ : jX κ) {rs rv a av N : Nat} {f : Nat → Int32} (hl : jLit κ rs rv a av N f) (hp : (0 : Int32) < Int32.ofNat N) (w : jW) {c v : Int32} (h : s_find N f c = some v) : jM κ yJ4_indexOf (ws_ yJ4_indexOf cJ4_indexOf 2 (some .int)) 3 0 0 [.ref a, .int c] w (fun u w' => u = some (.int v) ∧ w' = w) := by
  refine jM.of (by decide) rfl (Nat.le_of_ble_eq_true rfl) fun Γ C _ => ?_
  show J κ Γ (3, 0, 0, (fun u w' => u = some (.int v) ∧ w' = w)) 2 w 0 0 0 [some (.ref a), some (.int c)] []
  refine j_aload_n C dJ4_indexOf_0 rfl rfl ?_
  refine j_iload_n C dJ4_indexOf_1 rfl rfl ?_
  refine j_iconst C (v := 0) dJ4_indexOf_2 rfl ?_
  refine j_callVC hκ.1.1 C (mt_s_indexOf2 hκ hl hp w h) (lw_V q670 q671 q672 q121 q673) (N := 2) ⟨by decide, by decide, by decide +kernel⟩ rfl hl.1 (hκ.cl rfl) rfl dJ4_indexOf_3 ⟨Nat.le_of_ble_eq_true rfl, by decide, Nat.le_of_ble_eq_true rfl, Nat.le_of_ble_eq_true rfl, Nat.le_of_ble_eq_true rfl⟩ rfl ?_
  exact j_iret C dJ4_indexOf_6 (Nat.zero_le _) (Nat.zero_le _) ⟨rfl, rfl⟩
