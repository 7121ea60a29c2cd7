set_option maxRecDepth 100000
/-! element -/
def m_element (T : MS) (p1 : Int32) (p2 : Int32) : Option Int64 :=
  (m_isShelf p1).bind fun v2 =>
  (if (b2i v2) = 0 then
  some (-9223372036854775808)
  else
  (m_isRow T p1).bind fun v4 =>
  (if (b2i v4) = 0 then
  some (-9223372036854775808)
  else
  chk 6 p1 (
  (m_within p2 0 ((T.2.1 42 p1.toNatClampNeg) - 1)).bind fun v7 =>
  (if (b2i v7) = 0 then
  some (-9223372036854775808)
  else
  chk 360 ((60 * p1) + p2) (
  some (T.2.2 ((60 * p1) + p2).toNatClampNeg))))))
theorem mt_m_element {κ : jK} (hκ : jStd κ) (G : Nat → Nat) {T : MS} {p1 : Int32} {p2 : Int32} {v : Int64} (h : m_element T p1 p2 = some v) : jM κ yX2_element (ws_ yX2_element cX2_element 3 (some .long)) 2 0 0 [.ref (G 0), .int p1, .int p2] (wM κ G T) (fun u w' => u = some (.long v) ∧ w' = wM κ G T) := by
  rw [m_element] at h
  refine jM.of (by decide) rfl (Nat.le_of_ble_eq_true rfl) fun Γ C _ => ?_
  show J κ Γ (2, 0, 0, (fun u w' => u = some (.long v) ∧ w' = wM κ G T)) 3 (wM κ G T) 0 0 0 [some (.ref (G 0)), some (.int p1), some (.int p2)] []
  refine j_iload_n C dX2_element_0 rfl rfl ?_
  obtain ⟨v2, e1, h⟩ := ob h
  refine j_Si hκ.1 C (mt_m_isShelf hκ e1) hG_m_isShelf hy_m_isShelf rfl dX2_element_1 (jfit.of (Nat.le_of_ble_eq_true rfl) (by decide) (Nat.zero_le _) (Nat.zero_le _) (Nat.le_of_ble_eq_true rfl)) rfl ?_
  refine j_if_eq C dX2_element_4 (tgt := 45) (by decide) (fun c => ?_) (fun c => ?_)
  · replace h := ip c h
    refine j_ldc2 C (v := (-9223372036854775808)) dX2_element_45 q2217 ?_
    obtain rfl := sp1 h
    exact j_lret C dX2_element_48 (Nat.zero_le _) (Nat.zero_le _) ⟨rfl, rfl⟩
  replace h := im c h
  refine j_aload_n C dX2_element_7 rfl rfl ?_
  refine j_iload_n C dX2_element_8 rfl rfl ?_
  obtain ⟨v4, e3, h⟩ := ob h
  refine jm_Vi hκ C (mt_m_isRow hκ G e3) hG_m_isRow hy_m_isRow rfl rfl dX2_element_9 (jfit.of (Nat.le_of_ble_eq_true rfl) (by decide) (Nat.zero_le _) (Nat.zero_le _) (Nat.le_of_ble_eq_true rfl)) rfl ?_
  refine j_if_eq C dX2_element_12 (tgt := 45) (by decide) (fun c => ?_) (fun c => ?_)
  · replace h := ip c h
    refine j_ldc2 C (v := (-9223372036854775808)) dX2_element_45 q2217 ?_
    obtain rfl := sp1 h
    exact j_lret C dX2_element_48 (Nat.zero_le _) (Nat.zero_le _) ⟨rfl, rfl⟩
  replace h := im c h
  refine j_iload_n C dX2_element_15 rfl rfl ?_
  refine j_iconst C (v := 0) dX2_element_16 rfl ?_
  refine j_aload_n C dX2_element_17 rfl rfl ?_
  refine jm_geta hκ C 42 (by decide) rfl q1679 dX2_element_18 ?_
  refine j_iload_n C dX2_element_21 rfl rfl ?_
  obtain ⟨b5, h⟩ := chk_some h
  refine jm_iald hκ C 42 rfl b5 dX2_element_22 ?_
  refine j_iconst C (v := 1) dX2_element_23 rfl ?_
  refine j_isub C dX2_element_24 ?_
  obtain ⟨v7, e6, h⟩ := ob h
  refine j_Si hκ.1 C (mt_m_within hκ e6) hG_m_within hy_m_within rfl dX2_element_25 (jfit.of (Nat.le_of_ble_eq_true rfl) (by decide) (Nat.zero_le _) (Nat.zero_le _) (Nat.le_of_ble_eq_true rfl)) rfl ?_
  refine j_if_eq C dX2_element_28 (tgt := 45) (by decide) (fun c => ?_) (fun c => ?_)
  · replace h := ip c h
    refine j_ldc2 C (v := (-9223372036854775808)) dX2_element_45 q2217 ?_
    obtain rfl := sp1 h
    exact j_lret C dX2_element_48 (Nat.zero_le _) (Nat.zero_le _) ⟨rfl, rfl⟩
  replace h := im c h
  refine j_aload_n C dX2_element_31 rfl rfl ?_
  refine jm_geta hκ C 43 (by decide) rfl q1680 dX2_element_32 ?_
  refine j_bipush C (v := 60) dX2_element_35 rfl ?_
  refine j_iload_n C dX2_element_37 rfl rfl ?_
  refine j_imul C dX2_element_38 ?_
  refine j_iload_n C dX2_element_39 rfl rfl ?_
  refine j_iadd C dX2_element_40 ?_
  obtain ⟨b8, h⟩ := chk_some h
  refine jm_lald hκ C 43 rfl b8 dX2_element_41 ?_
  refine j_goto C dX2_element_42 (tgt := 48) (by decide) ?_
  obtain rfl := sp1 h
  exact j_lret C dX2_element_48 (Nat.zero_le _) (Nat.zero_le _) ⟨rfl, rfl⟩
/-! shift -/
def m_shift_b142 (N : Nat) (l1 : Int32) (l2 : Int32) (l3 : Int32) (l4 : Int32) (l5 : Int32) : Nat → MS → Int32 → Option (Int32 × MS)
  | 0, _, _ => none
  | n + 1, T, l6 =>
    (if l6 < 0 then
    some (l5, T)
    else
    chk 360 (((60 * l1) + l2) + l6) (
    chk 360 (((60 * l3) + l4) + l6) (
    nm (sL T (((60 * l3) + l4) + l6).toNatClampNeg (T.2.2 (((60 * l1) + l2) + l6).toNatClampNeg)) fun T2 =>
    nm (l6 + (-1)) fun x4 =>
    m_shift_b142 N l1 l2 l3 l4 l5 n T2 x4)))
theorem wm_shift_b142 {κ : jK} (hκ : jStd κ) (N : Nat) {Γ : jG} (C : jC κ Γ cX2_shift 7 RX2 (some .int)) {G : Nat → Nat} (l1 : Int32) (l2 : Int32) (l3 : Int32) (l4 : Int32) (l5 : Int32) {v : Int32} {T' : MS} : ∀ (n : Nat) (T : MS) (l6 : Int32), m_shift_b142 N l1 l2 l3 l4 l5 n T l6 = some (v, T') → J κ Γ (2, 0, 0, (fun u w' => u = some (.int v) ∧ w' = wM κ G T')) 7 (wM κ G T) 0 0 142 [some (.ref (G 0)), some (.int l1), some (.int l2), some (.int l3), some (.int l4), some (.int l5), some (.int l6)] [] := by
  intro n
  induction n with
  | zero => intro _ _ h; cases h
  | succ n ih =>
    intro T l6 h
    rw [m_shift_b142] at h
    refine j_iload C dX2_shift_142 rfl ?_
    refine j_if_lt C dX2_shift_144 (tgt := 182) (by decide) (fun c => ?_) (fun c => ?_)
    · replace h := ip c h
      refine j_goto C dX2_shift_182 (tgt := 230) (by decide) ?_
      refine j_iload C dX2_shift_230 rfl ?_
      obtain ⟨rfl, rfl⟩ := sp2 h
      exact j_iret C dX2_shift_232 (Nat.zero_le _) (Nat.zero_le _) ⟨rfl, rfl⟩
    replace h := im c h
    refine j_aload_n C dX2_shift_147 rfl rfl ?_
    refine jm_geta hκ C 43 (by decide) rfl q1680 dX2_shift_148 ?_
    refine j_bipush C (v := 60) dX2_shift_151 rfl ?_
    refine j_iload_n C dX2_shift_153 rfl rfl ?_
    refine j_imul C dX2_shift_154 ?_
    refine j_iload C dX2_shift_155 rfl ?_
    refine j_iadd C dX2_shift_157 ?_
    refine j_iload C dX2_shift_158 rfl ?_
    refine j_iadd C dX2_shift_160 ?_
    refine j_aload_n C dX2_shift_161 rfl rfl ?_
    refine jm_geta hκ C 43 (by decide) rfl q1680 dX2_shift_162 ?_
    refine j_bipush C (v := 60) dX2_shift_165 rfl ?_
    refine j_iload_n C dX2_shift_167 rfl rfl ?_
    refine j_imul C dX2_shift_168 ?_
    refine j_iload_n C dX2_shift_169 rfl rfl ?_
    refine j_iadd C dX2_shift_170 ?_
    refine j_iload C dX2_shift_171 rfl ?_
    refine j_iadd C dX2_shift_173 ?_
    obtain ⟨b1, h⟩ := chk_some h
    refine jm_lald hκ C 43 rfl b1 dX2_shift_174 ?_
    obtain ⟨b3, h⟩ := chk_some h
    refine jm_last hκ C 43 rfl b3 dX2_shift_175 ?_
    refine jm_nmT h (fun T2 h => ?_)
    refine j_iincN C h dX2_shift_176 rfl rfl (by decide) rfl (fun x4 h => ?_)
    refine j_goto C dX2_shift_179 (tgt := 142) (by decide) ?_
    exact j_sub (ih _ _ h) ⟨rfl, ⟨rfl, ⟨rfl, ⟨rfl, ⟨rfl, ⟨rfl, ⟨rfl, trivial⟩⟩⟩⟩⟩⟩⟩
def m_shift_b188 (N : Nat) (l1 : Int32) (l2 : Int32) (l3 : Int32) (l4 : Int32) (l5 : Int32) : Nat → MS → Int32 → Option (Int32 × MS)
  | 0, _, _ => none
  | n + 1, T, l6 =>
    (if l5 ≤ l6 then
    some (l5, T)
    else
    chk 360 (((60 * l1) + l2) + l6) (
    chk 360 (((60 * l3) + l4) + l6) (
    nm (sL T (((60 * l3) + l4) + l6).toNatClampNeg (T.2.2 (((60 * l1) + l2) + l6).toNatClampNeg)) fun T2 =>
    nm (l6 + 1) fun x4 =>
    m_shift_b188 N l1 l2 l3 l4 l5 n T2 x4)))
theorem wm_shift_b188 {κ : jK} (hκ : jStd κ) (N : Nat) {Γ : jG} (C : jC κ Γ cX2_shift 7 RX2 (some .int)) {G : Nat → Nat} (l1 : Int32) (l2 : Int32) (l3 : Int32) (l4 : Int32) (l5 : Int32) {v : Int32} {T' : MS} : ∀ (n : Nat) (T : MS) (l6 : Int32), m_shift_b188 N l1 l2 l3 l4 l5 n T l6 = some (v, T') → J κ Γ (2, 0, 0, (fun u w' => u = some (.int v) ∧ w' = wM κ G T')) 7 (wM κ G T) 0 0 188 [some (.ref (G 0)), some (.int l1), some (.int l2), some (.int l3), some (.int l4), some (.int l5), some (.int l6)] [] := by
  intro n
  induction n with
  | zero => intro _ _ h; cases h
  | succ n ih =>
    intro T l6 h
    rw [m_shift_b188] at h
    refine j_iload C dX2_shift_188 rfl ?_
    refine j_iload C dX2_shift_190 rfl ?_
    refine j_icmp_ge C dX2_shift_192 (tgt := 230) (by decide) (fun c => ?_) (fun c => ?_)
    · replace h := ip c h
      refine j_iload C dX2_shift_230 rfl ?_
      obtain ⟨rfl, rfl⟩ := sp2 h
      exact j_iret C dX2_shift_232 (Nat.zero_le _) (Nat.zero_le _) ⟨rfl, rfl⟩
    replace h := im c h
    refine j_aload_n C dX2_shift_195 rfl rfl ?_
    refine jm_geta hκ C 43 (by decide) rfl q1680 dX2_shift_196 ?_
    refine j_bipush C (v := 60) dX2_shift_199 rfl ?_
    refine j_iload_n C dX2_shift_201 rfl rfl ?_
    refine j_imul C dX2_shift_202 ?_
    refine j_iload C dX2_shift_203 rfl ?_
    refine j_iadd C dX2_shift_205 ?_
    refine j_iload C dX2_shift_206 rfl ?_
    refine j_iadd C dX2_shift_208 ?_
    refine j_aload_n C dX2_shift_209 rfl rfl ?_
    refine jm_geta hκ C 43 (by decide) rfl q1680 dX2_shift_210 ?_
    refine j_bipush C (v := 60) dX2_shift_213 rfl ?_
    refine j_iload_n C dX2_shift_215 rfl rfl ?_
    refine j_imul C dX2_shift_216 ?_
    refine j_iload_n C dX2_shift_217 rfl rfl ?_
    refine j_iadd C dX2_shift_218 ?_
    refine j_iload C dX2_shift_219 rfl ?_
    refine j_iadd C dX2_shift_221 ?_
    obtain ⟨b1, h⟩ := chk_some h
    refine jm_lald hκ C 43 rfl b1 dX2_shift_222 ?_
    obtain ⟨b3, h⟩ := chk_some h
    refine jm_last hκ C 43 rfl b3 dX2_shift_223 ?_
    refine jm_nmT h (fun T2 h => ?_)
    refine j_iincN C h dX2_shift_224 rfl rfl (by decide) rfl (fun x4 h => ?_)
    refine j_goto C dX2_shift_227 (tgt := 188) (by decide) ?_
    exact j_sub (ih _ _ h) ⟨rfl, ⟨rfl, ⟨rfl, ⟨rfl, ⟨rfl, ⟨rfl, ⟨rfl, trivial⟩⟩⟩⟩⟩⟩⟩
def m_shift (N : Nat) (T : MS) (p1 : Int32) (p2 : Int32) (p3 : Int32) (p4 : Int32) (p5 : Int32) : Option (Int32 × MS) :=
  (m_isShelf p1).bind fun v2 =>
  (if (b2i v2) = 0 then
  some ((-1), T)
  else
  (m_isShelf p3).bind fun v4 =>
  (if (b2i v4) = 0 then
  some ((-1), T)
  else
  chk 6 p1 (
  (if (T.2.1 41 p1.toNatClampNeg) = (-1) then
  some ((-11), T)
  else
  chk 6 p3 (
  (if (T.2.1 41 p3.toNatClampNeg) = (-1) then
  some ((-11), T)
  else
  (m_isRow T p1).bind fun v8 =>
  (if (b2i v8) = 0 then
  some ((-12), T)
  else
  (m_isRow T p3).bind fun v10 =>
  (if (b2i v10) = 0 then
  some ((-12), T)
  else
  chk 6 p1 (
  chk 6 p3 (
  (if (T.2.1 41 p1.toNatClampNeg) = (T.2.1 41 p3.toNatClampNeg) then
  (if p5 < 0 then
  some ((-13), T)
  else
  (if p2 < 0 then
  some ((-13), T)
  else
  (if p4 < 0 then
  some ((-13), T)
  else
  chk 6 p1 (
  (if 0 < (lg_cmp (p2.toInt64 + p5.toInt64) ((T.2.1 42 p1.toNatClampNeg).toInt64)) then
  some ((-13), T)
  else
  chk 6 p3 (
  (if (lg_cmp (p4.toInt64 + p5.toInt64) ((T.2.1 42 p3.toNatClampNeg).toInt64)) ≤ 0 then
  (if p1 = p3 then
  (if p4 ≤ p2 then
  m_shift_b188 N p1 p2 p3 p4 p5 N T 0
  else
  nm (p5 - 1) fun x15 =>
  m_shift_b142 N p1 p2 p3 p4 p5 N T x15)
  else
  m_shift_b188 N p1 p2 p3 p4 p5 N T 0)
  else
  some ((-13), T))))))))
  else
  some ((-12), T))))))))))))
theorem mt_m_shift {κ : jK} (hκ : jStd κ) (N : Nat) (G : Nat → Nat) {T : MS} {p1 : Int32} {p2 : Int32} {p3 : Int32} {p4 : Int32} {p5 : Int32} {v : Int32} {T' : MS} (h : m_shift N T p1 p2 p3 p4 p5 = some (v, T')) : jM κ yX2_shift (ws_ yX2_shift cX2_shift 7 (some .int)) 2 0 0 [.ref (G 0), .int p1, .int p2, .int p3, .int p4, .int p5] (wM κ G T) (fun u w' => u = some (.int v) ∧ w' = wM κ G T') := by
  rw [m_shift] at h
  refine jM.of (by decide) rfl (Nat.le_of_ble_eq_true rfl) fun Γ C _ => ?_
  show J κ Γ (2, 0, 0, (fun u w' => u = some (.int v) ∧ w' = wM κ G T')) 7 (wM κ G T) 0 0 0 [some (.ref (G 0)), some (.int p1), some (.int p2), some (.int p3), some (.int p4), some (.int p5), none] []
  refine j_iload_n C dX2_shift_0 rfl rfl ?_
  obtain ⟨v2, e1, h⟩ := ob h
  refine j_Si hκ.1 C (mt_m_isShelf hκ e1) hG_m_isShelf hy_m_isShelf rfl dX2_shift_1 (jfit.of (Nat.le_of_ble_eq_true rfl) (by decide) (Nat.zero_le _) (Nat.zero_le _) (Nat.le_of_ble_eq_true rfl)) rfl ?_
  refine j_if_eq C dX2_shift_4 (tgt := 14) (by decide) (fun c => ?_) (fun c => ?_)
  · replace h := ip c h
    refine j_iconst C (v := (-1)) dX2_shift_14 rfl ?_
    obtain ⟨rfl, rfl⟩ := sp2 h
    exact j_iret C dX2_shift_15 (Nat.zero_le _) (Nat.zero_le _) ⟨rfl, rfl⟩
  replace h := im c h
  refine j_iload_n C dX2_shift_7 rfl rfl ?_
  obtain ⟨v4, e3, h⟩ := ob h
  refine j_Si hκ.1 C (mt_m_isShelf hκ e3) hG_m_isShelf hy_m_isShelf rfl dX2_shift_8 (jfit.of (Nat.le_of_ble_eq_true rfl) (by decide) (Nat.zero_le _) (Nat.zero_le _) (Nat.le_of_ble_eq_true rfl)) rfl ?_
  refine j_if_ne C dX2_shift_11 (tgt := 16) (by decide) (fun c => ?_) (fun c => ?_)
  · replace h := im c h
    refine j_aload_n C dX2_shift_16 rfl rfl ?_
    refine jm_geta hκ C 41 (by decide) rfl q1678 dX2_shift_17 ?_
    refine j_iload_n C dX2_shift_20 rfl rfl ?_
    obtain ⟨b5, h⟩ := chk_some h
    refine jm_iald hκ C 41 rfl b5 dX2_shift_21 ?_
    refine j_iconst C (v := (-1)) dX2_shift_22 rfl ?_
    refine j_icmp_eq C dX2_shift_23 (tgt := 36) (by decide) (fun c => ?_) (fun c => ?_)
    · replace h := ip c h
      refine j_bipush C (v := (-11)) dX2_shift_36 rfl ?_
      obtain ⟨rfl, rfl⟩ := sp2 h
      exact j_iret C dX2_shift_38 (Nat.zero_le _) (Nat.zero_le _) ⟨rfl, rfl⟩
    replace h := im c h
    refine j_aload_n C dX2_shift_26 rfl rfl ?_
    refine jm_geta hκ C 41 (by decide) rfl q1678 dX2_shift_27 ?_
    refine j_iload_n C dX2_shift_30 rfl rfl ?_
    obtain ⟨b6, h⟩ := chk_some h
    refine jm_iald hκ C 41 rfl b6 dX2_shift_31 ?_
    refine j_iconst C (v := (-1)) dX2_shift_32 rfl ?_
    refine j_icmp_ne C dX2_shift_33 (tgt := 39) (by decide) (fun c => ?_) (fun c => ?_)
    · replace h := im c h
      refine j_aload_n C dX2_shift_39 rfl rfl ?_
      refine j_iload_n C dX2_shift_40 rfl rfl ?_
      obtain ⟨v8, e7, h⟩ := ob h
      refine jm_Vi hκ C (mt_m_isRow hκ G e7) hG_m_isRow hy_m_isRow rfl rfl dX2_shift_41 (jfit.of (Nat.le_of_ble_eq_true rfl) (by decide) (Nat.zero_le _) (Nat.zero_le _) (Nat.le_of_ble_eq_true rfl)) rfl ?_
      refine j_if_eq C dX2_shift_44 (tgt := 70) (by decide) (fun c => ?_) (fun c => ?_)
      · replace h := ip c h
        refine j_bipush C (v := (-12)) dX2_shift_70 rfl ?_
        obtain ⟨rfl, rfl⟩ := sp2 h
        exact j_iret C dX2_shift_72 (Nat.zero_le _) (Nat.zero_le _) ⟨rfl, rfl⟩
      replace h := im c h
      refine j_aload_n C dX2_shift_47 rfl rfl ?_
      refine j_iload_n C dX2_shift_48 rfl rfl ?_
      obtain ⟨v10, e9, h⟩ := ob h
      refine jm_Vi hκ C (mt_m_isRow hκ G e9) hG_m_isRow hy_m_isRow rfl rfl dX2_shift_49 (jfit.of (Nat.le_of_ble_eq_true rfl) (by decide) (Nat.zero_le _) (Nat.zero_le _) (Nat.le_of_ble_eq_true rfl)) rfl ?_
      refine j_if_eq C dX2_shift_52 (tgt := 70) (by decide) (fun c => ?_) (fun c => ?_)
      · replace h := ip c h
        refine j_bipush C (v := (-12)) dX2_shift_70 rfl ?_
        obtain ⟨rfl, rfl⟩ := sp2 h
        exact j_iret C dX2_shift_72 (Nat.zero_le _) (Nat.zero_le _) ⟨rfl, rfl⟩
      replace h := im c h
      refine j_aload_n C dX2_shift_55 rfl rfl ?_
      refine jm_geta hκ C 41 (by decide) rfl q1678 dX2_shift_56 ?_
      refine j_iload_n C dX2_shift_59 rfl rfl ?_
      obtain ⟨b11, h⟩ := chk_some h
      refine jm_iald hκ C 41 rfl b11 dX2_shift_60 ?_
      refine j_aload_n C dX2_shift_61 rfl rfl ?_
      refine jm_geta hκ C 41 (by decide) rfl q1678 dX2_shift_62 ?_
      refine j_iload_n C dX2_shift_65 rfl rfl ?_
      obtain ⟨b12, h⟩ := chk_some h
      refine jm_iald hκ C 41 rfl b12 dX2_shift_66 ?_
      refine j_icmp_eq C dX2_shift_67 (tgt := 73) (by decide) (fun c => ?_) (fun c => ?_)
      · replace h := ip c h
        refine j_iload C dX2_shift_73 rfl ?_
        refine j_if_lt C dX2_shift_75 (tgt := 122) (by decide) (fun c => ?_) (fun c => ?_)
        · replace h := ip c h
          refine j_bipush C (v := (-13)) dX2_shift_122 rfl ?_
          obtain ⟨rfl, rfl⟩ := sp2 h
          exact j_iret C dX2_shift_124 (Nat.zero_le _) (Nat.zero_le _) ⟨rfl, rfl⟩
        replace h := im c h
        refine j_iload_n C dX2_shift_78 rfl rfl ?_
        refine j_if_lt C dX2_shift_79 (tgt := 122) (by decide) (fun c => ?_) (fun c => ?_)
        · replace h := ip c h
          refine j_bipush C (v := (-13)) dX2_shift_122 rfl ?_
          obtain ⟨rfl, rfl⟩ := sp2 h
          exact j_iret C dX2_shift_124 (Nat.zero_le _) (Nat.zero_le _) ⟨rfl, rfl⟩
        replace h := im c h
        refine j_iload C dX2_shift_82 rfl ?_
        refine j_if_lt C dX2_shift_84 (tgt := 122) (by decide) (fun c => ?_) (fun c => ?_)
        · replace h := ip c h
          refine j_bipush C (v := (-13)) dX2_shift_122 rfl ?_
          obtain ⟨rfl, rfl⟩ := sp2 h
          exact j_iret C dX2_shift_124 (Nat.zero_le _) (Nat.zero_le _) ⟨rfl, rfl⟩
        replace h := im c h
        refine j_iload_n C dX2_shift_87 rfl rfl ?_
        refine j_i2l C dX2_shift_88 ?_
        refine j_iload C dX2_shift_89 rfl ?_
        refine j_i2l C dX2_shift_91 ?_
        refine j_ladd C dX2_shift_92 ?_
        refine j_aload_n C dX2_shift_93 rfl rfl ?_
        refine jm_geta hκ C 42 (by decide) rfl q1679 dX2_shift_94 ?_
        refine j_iload_n C dX2_shift_97 rfl rfl ?_
        obtain ⟨b13, h⟩ := chk_some h
        refine jm_iald hκ C 42 rfl b13 dX2_shift_98 ?_
        refine j_i2l C dX2_shift_99 ?_
        refine j_lcmp C dX2_shift_100 ?_
        refine j_if_gt C dX2_shift_101 (tgt := 122) (by decide) (fun c => ?_) (fun c => ?_)
        · replace h := ip c h
          refine j_bipush C (v := (-13)) dX2_shift_122 rfl ?_
          obtain ⟨rfl, rfl⟩ := sp2 h
          exact j_iret C dX2_shift_124 (Nat.zero_le _) (Nat.zero_le _) ⟨rfl, rfl⟩
        replace h := im c h
        refine j_iload C dX2_shift_104 rfl ?_
        refine j_i2l C dX2_shift_106 ?_
        refine j_iload C dX2_shift_107 rfl ?_
        refine j_i2l C dX2_shift_109 ?_
        refine j_ladd C dX2_shift_110 ?_
        refine j_aload_n C dX2_shift_111 rfl rfl ?_
        refine jm_geta hκ C 42 (by decide) rfl q1679 dX2_shift_112 ?_
        refine j_iload_n C dX2_shift_115 rfl rfl ?_
        obtain ⟨b14, h⟩ := chk_some h
        refine jm_iald hκ C 42 rfl b14 dX2_shift_116 ?_
        refine j_i2l C dX2_shift_117 ?_
        refine j_lcmp C dX2_shift_118 ?_
        refine j_if_le C dX2_shift_119 (tgt := 125) (by decide) (fun c => ?_) (fun c => ?_)
        · replace h := ip c h
          refine j_iload_n C dX2_shift_125 rfl rfl ?_
          refine j_iload_n C dX2_shift_126 rfl rfl ?_
          refine j_icmp_ne C dX2_shift_127 (tgt := 185) (by decide) (fun c => ?_) (fun c => ?_)
          · replace h := im c h
            refine j_iconst C (v := 0) dX2_shift_185 rfl ?_
            refine j_istore C dX2_shift_186 (by decide) rfl ?_
            exact j_sub (wm_shift_b188 hκ N C _ _ _ _ _ N _ _ h) ⟨rfl, ⟨rfl, ⟨rfl, ⟨rfl, ⟨rfl, ⟨rfl, ⟨rfl, trivial⟩⟩⟩⟩⟩⟩⟩
          replace h := ip c h
          refine j_iload_n C dX2_shift_130 rfl rfl ?_
          refine j_iload C dX2_shift_131 rfl ?_
          refine j_icmp_ge C dX2_shift_133 (tgt := 185) (by decide) (fun c => ?_) (fun c => ?_)
          · replace h := ip c h
            refine j_iconst C (v := 0) dX2_shift_185 rfl ?_
            refine j_istore C dX2_shift_186 (by decide) rfl ?_
            exact j_sub (wm_shift_b188 hκ N C _ _ _ _ _ N _ _ h) ⟨rfl, ⟨rfl, ⟨rfl, ⟨rfl, ⟨rfl, ⟨rfl, ⟨rfl, trivial⟩⟩⟩⟩⟩⟩⟩
          replace h := im c h
          refine j_iload C dX2_shift_136 rfl ?_
          refine j_iconst C (v := 1) dX2_shift_138 rfl ?_
          refine j_isub C dX2_shift_139 ?_
          refine j_nmI h (fun x15 h => ?_)
          refine j_istore C dX2_shift_140 (by decide) rfl ?_
          exact j_sub (wm_shift_b142 hκ N C _ _ _ _ _ N _ _ h) ⟨rfl, ⟨rfl, ⟨rfl, ⟨rfl, ⟨rfl, ⟨rfl, ⟨rfl, trivial⟩⟩⟩⟩⟩⟩⟩
        replace h := im c h
        refine j_bipush C (v := (-13)) dX2_shift_122 rfl ?_
        obtain ⟨rfl, rfl⟩ := sp2 h
        exact j_iret C dX2_shift_124 (Nat.zero_le _) (Nat.zero_le _) ⟨rfl, rfl⟩
      replace h := im c h
      refine j_bipush C (v := (-12)) dX2_shift_70 rfl ?_
      obtain ⟨rfl, rfl⟩ := sp2 h
      exact j_iret C dX2_shift_72 (Nat.zero_le _) (Nat.zero_le _) ⟨rfl, rfl⟩
    replace h := ip c h
    refine j_bipush C (v := (-11)) dX2_shift_36 rfl ?_
    obtain ⟨rfl, rfl⟩ := sp2 h
    exact j_iret C dX2_shift_38 (Nat.zero_le _) (Nat.zero_le _) ⟨rfl, rfl⟩
  replace h := ip c h
  refine j_iconst C (v := (-1)) dX2_shift_14 rfl ?_
  obtain ⟨rfl, rfl⟩ := sp2 h
  exact j_iret C dX2_shift_15 (Nat.zero_le _) (Nat.zero_le _) ⟨rfl, rfl⟩
/-! taken -/
def m_taken_b82 (N : Nat) (T : MS) (l2 : Int32) (l3 : Int32) (l4 : Int32) : Option Int32 :=
  (if l4 = l2 then
  some l3
  else
  some (-12))
theorem wm_taken_b82 {κ : jK} (hκ : jStd κ) (N : Nat) {Γ : jG} (C : jC κ Γ cX2_taken 5 RX2 (some .int)) {G : Nat → Nat} {T : MS} (l2 : Int32) (l3 : Int32) (l4 : Int32) {v : Int32} : m_taken_b82 N T l2 l3 l4 = some v → J κ Γ (2, 0, 0, (fun u w' => u = some (.int v) ∧ w' = wM κ G T)) 5 (wM κ G T) 0 0 82 [some (.ref (G 0)), none, some (.int l2), some (.int l3), some (.int l4)] [] := by
  intro  h
  rw [m_taken_b82] at h
  refine j_iload C dX2_taken_82 rfl ?_
  refine j_iload_n C dX2_taken_84 rfl rfl ?_
  refine j_icmp_ne C dX2_taken_85 (tgt := 92) (by decide) (fun c => ?_) (fun c => ?_)
  · replace h := im c h
    refine j_bipush C (v := (-12)) dX2_taken_92 rfl ?_
    obtain rfl := sp1 h
    exact j_iret C dX2_taken_94 (Nat.zero_le _) (Nat.zero_le _) ⟨rfl, rfl⟩
  replace h := ip c h
  refine j_iload_n C dX2_taken_88 rfl rfl ?_
  refine j_goto C dX2_taken_89 (tgt := 94) (by decide) ?_
  obtain rfl := sp1 h
  exact j_iret C dX2_taken_94 (Nat.zero_le _) (Nat.zero_le _) ⟨rfl, rfl⟩
def m_taken_b61 (N : Nat) (T : MS) (l2 : Int32) (l3 : Int32) : Nat → Int32 → Option Int32
  | 0, _ => none
  | n + 1, l4 =>
    (if l4 = l2 then
    m_taken_b82 N T l2 l3 l4
    else
    (if l4 ≤ 0 then
    m_taken_b82 N T l2 l3 l4
    else
    (m_above l4).bind fun v2 =>
    m_taken_b61 N T l2 l3 n v2))
theorem wm_taken_b61 {κ : jK} (hκ : jStd κ) (N : Nat) {Γ : jG} (C : jC κ Γ cX2_taken 5 RX2 (some .int)) {G : Nat → Nat} {T : MS} (l2 : Int32) (l3 : Int32) {v : Int32} : ∀ (n : Nat) (l4 : Int32), m_taken_b61 N T l2 l3 n l4 = some v → J κ Γ (2, 0, 0, (fun u w' => u = some (.int v) ∧ w' = wM κ G T)) 5 (wM κ G T) 0 0 61 [some (.ref (G 0)), none, some (.int l2), some (.int l3), some (.int l4)] [] := by
  intro n
  induction n with
  | zero => intro _ h; cases h
  | succ n ih =>
    intro l4 h
    rw [m_taken_b61] at h
    refine j_iload C dX2_taken_61 rfl ?_
    refine j_iload_n C dX2_taken_63 rfl rfl ?_
    refine j_icmp_eq C dX2_taken_64 (tgt := 82) (by decide) (fun c => ?_) (fun c => ?_)
    · replace h := ip c h
      exact j_sub (wm_taken_b82 hκ N C _ _ _ h) ⟨rfl, ⟨rfl, ⟨rfl, ⟨rfl, trivial⟩⟩⟩⟩
    replace h := im c h
    refine j_iload C dX2_taken_67 rfl ?_
    refine j_if_le C dX2_taken_69 (tgt := 82) (by decide) (fun c => ?_) (fun c => ?_)
    · replace h := ip c h
      exact j_sub (wm_taken_b82 hκ N C _ _ _ h) ⟨rfl, ⟨rfl, ⟨rfl, ⟨rfl, trivial⟩⟩⟩⟩
    replace h := im c h
    refine j_iload C dX2_taken_72 rfl ?_
    obtain ⟨v2, e1, h⟩ := ob h
    refine j_Si hκ.1 C (mt_m_above hκ e1) hG_m_above hy_m_above rfl dX2_taken_74 (jfit.of (Nat.le_of_ble_eq_true rfl) (by decide) (Nat.zero_le _) (Nat.zero_le _) (Nat.le_of_ble_eq_true rfl)) rfl ?_
    refine j_istore C dX2_taken_77 (by decide) rfl ?_
    refine j_goto C dX2_taken_79 (tgt := 61) (by decide) ?_
    exact j_sub (ih _ h) ⟨rfl, ⟨rfl, ⟨rfl, ⟨rfl, trivial⟩⟩⟩⟩
def m_taken (N : Nat) (T : MS) (p1 : Int32) (p2 : Int32) : Option Int32 :=
  (m_isShelf p1).bind fun v2 =>
  (if (b2i v2) = 0 then
  some (-1)
  else
  (m_within p2 0 7).bind fun v4 =>
  (if (b2i v4) = 0 then
  some (-1)
  else
  chk 6 p1 (
  (if (T.2.1 41 p1.toNatClampNeg) = (-1) then
  some (-11)
  else
  (m_isRow T p1).bind fun v7 =>
  (if (b2i v7) = 0 then
  chk 6 p1 (
  chk 50 ((T.2.1 41 p1.toNatClampNeg) - 10) (
  nm (T.2.1 38 ((T.2.1 41 p1.toNatClampNeg) - 10).toNatClampNeg) fun x10 =>
  m_taken_b61 N T p2 x10 N x10))
  else
  some (-12))))))
theorem mt_m_taken {κ : jK} (hκ : jStd κ) (N : Nat) (G : Nat → Nat) {T : MS} {p1 : Int32} {p2 : Int32} {v : Int32} (h : m_taken N T p1 p2 = some v) : jM κ yX2_taken (ws_ yX2_taken cX2_taken 5 (some .int)) 2 0 0 [.ref (G 0), .int p1, .int p2] (wM κ G T) (fun u w' => u = some (.int v) ∧ w' = wM κ G T) := by
  rw [m_taken] at h
  refine jM.of (by decide) rfl (Nat.le_of_ble_eq_true rfl) fun Γ C _ => ?_
  show J κ Γ (2, 0, 0, (fun u w' => u = some (.int v) ∧ w' = wM κ G T)) 5 (wM κ G T) 0 0 0 [some (.ref (G 0)), some (.int p1), some (.int p2), none, none] []
  refine j_iload_n C dX2_taken_0 rfl rfl ?_
  obtain ⟨v2, e1, h⟩ := ob h
  refine j_Si hκ.1 C (mt_m_isShelf hκ e1) hG_m_isShelf hy_m_isShelf rfl dX2_taken_1 (jfit.of (Nat.le_of_ble_eq_true rfl) (by decide) (Nat.zero_le _) (Nat.zero_le _) (Nat.le_of_ble_eq_true rfl)) rfl ?_
  refine j_if_eq C dX2_taken_4 (tgt := 17) (by decide) (fun c => ?_) (fun c => ?_)
  · replace h := ip c h
    refine j_iconst C (v := (-1)) dX2_taken_17 rfl ?_
    obtain rfl := sp1 h
    exact j_iret C dX2_taken_18 (Nat.zero_le _) (Nat.zero_le _) ⟨rfl, rfl⟩
  replace h := im c h
  refine j_iload_n C dX2_taken_7 rfl rfl ?_
  refine j_iconst C (v := 0) dX2_taken_8 rfl ?_
  refine j_bipush C (v := 7) dX2_taken_9 rfl ?_
  obtain ⟨v4, e3, h⟩ := ob h
  refine j_Si hκ.1 C (mt_m_within hκ e3) hG_m_within hy_m_within rfl dX2_taken_11 (jfit.of (Nat.le_of_ble_eq_true rfl) (by decide) (Nat.zero_le _) (Nat.zero_le _) (Nat.le_of_ble_eq_true rfl)) rfl ?_
  refine j_if_ne C dX2_taken_14 (tgt := 19) (by decide) (fun c => ?_) (fun c => ?_)
  · replace h := im c h
    refine j_aload_n C dX2_taken_19 rfl rfl ?_
    refine jm_geta hκ C 41 (by decide) rfl q1678 dX2_taken_20 ?_
    refine j_iload_n C dX2_taken_23 rfl rfl ?_
    obtain ⟨b5, h⟩ := chk_some h
    refine jm_iald hκ C 41 rfl b5 dX2_taken_24 ?_
    refine j_iconst C (v := (-1)) dX2_taken_25 rfl ?_
    refine j_icmp_ne C dX2_taken_26 (tgt := 32) (by decide) (fun c => ?_) (fun c => ?_)
    · replace h := im c h
      refine j_aload_n C dX2_taken_32 rfl rfl ?_
      refine j_iload_n C dX2_taken_33 rfl rfl ?_
      obtain ⟨v7, e6, h⟩ := ob h
      refine jm_Vi hκ C (mt_m_isRow hκ G e6) hG_m_isRow hy_m_isRow rfl rfl dX2_taken_34 (jfit.of (Nat.le_of_ble_eq_true rfl) (by decide) (Nat.zero_le _) (Nat.zero_le _) (Nat.le_of_ble_eq_true rfl)) rfl ?_
      refine j_if_eq C dX2_taken_37 (tgt := 43) (by decide) (fun c => ?_) (fun c => ?_)
      · replace h := ip c h
        refine j_aload_n C dX2_taken_43 rfl rfl ?_
        refine jm_geta hκ C 38 (by decide) rfl q1675 dX2_taken_44 ?_
        refine j_aload_n C dX2_taken_47 rfl rfl ?_
        refine jm_geta hκ C 41 (by decide) rfl q1678 dX2_taken_48 ?_
        refine j_iload_n C dX2_taken_51 rfl rfl ?_
        obtain ⟨b8, h⟩ := chk_some h
        refine jm_iald hκ C 41 rfl b8 dX2_taken_52 ?_
        refine j_bipush C (v := 10) dX2_taken_53 rfl ?_
        refine j_isub C dX2_taken_55 ?_
        obtain ⟨b9, h⟩ := chk_some h
        refine jm_iald hκ C 38 rfl b9 dX2_taken_56 ?_
        refine j_nmI h (fun x10 h => ?_)
        refine j_istore_n C dX2_taken_57 rfl (by decide) rfl ?_
        refine j_iload_n C dX2_taken_58 rfl rfl ?_
        refine j_istore C dX2_taken_59 (by decide) rfl ?_
        exact j_sub (wm_taken_b61 hκ N C _ _ N _ h) ⟨rfl, ⟨rfl, ⟨rfl, ⟨rfl, trivial⟩⟩⟩⟩
      replace h := im c h
      refine j_bipush C (v := (-12)) dX2_taken_40 rfl ?_
      obtain rfl := sp1 h
      exact j_iret C dX2_taken_42 (Nat.zero_le _) (Nat.zero_le _) ⟨rfl, rfl⟩
    replace h := ip c h
    refine j_bipush C (v := (-11)) dX2_taken_29 rfl ?_
    obtain rfl := sp1 h
    exact j_iret C dX2_taken_31 (Nat.zero_le _) (Nat.zero_le _) ⟨rfl, rfl⟩
  replace h := ip c h
  refine j_iconst C (v := (-1)) dX2_taken_17 rfl ?_
  obtain rfl := sp1 h
  exact j_iret C dX2_taken_18 (Nat.zero_le _) (Nat.zero_le _) ⟨rfl, rfl⟩
/-! count -/
def m_count (T : MS) (p1 : Int32) : Option Int32 :=
  (if p1 = 0 then
  some (T.1 0)
  else if p1 = 1 then
  some (T.1 6)
  else if p1 = 2 then
  some (T.1 35)
  else if p1 = 3 then
  some (T.1 37)
  else if p1 = 4 then
  some (T.1 39)
  else 
  some (-1))
theorem mt_m_count {κ : jK} (hκ : jStd κ) (G : Nat → Nat) {T : MS} {p1 : Int32} {v : Int32} (h : m_count T p1 = some v) : jM κ yX2_count (ws_ yX2_count cX2_count 2 (some .int)) 0 0 0 [.ref (G 0), .int p1] (wM κ G T) (fun u w' => u = some (.int v) ∧ w' = wM κ G T) := by
  rw [m_count] at h
  refine jM.of (by decide) rfl (Nat.le_of_ble_eq_true rfl) fun Γ C _ => ?_
  show J κ Γ (0, 0, 0, (fun u w' => u = some (.int v) ∧ w' = wM κ G T)) 2 (wM κ G T) 0 0 0 [some (.ref (G 0)), some (.int p1)] []
  refine j_iload_n C dX2_count_0 rfl rfl ?_
  by_cases c1_0 : p1 = 0
  · replace h := ip c1_0 h
    refine j_tabEq C dX2_count_1 c1_0 (a := 0) rfl (by decide) (by decide) rfl (tgt := 36) (by decide) ?_
    refine j_aload_n C dX2_count_36 rfl rfl ?_
    refine jm_geti hκ C 0 (by decide) rfl q1637 dX2_count_37 ?_
    obtain rfl := sp1 h
    exact j_iret C dX2_count_40 (Nat.zero_le _) (Nat.zero_le _) ⟨rfl, rfl⟩
  replace h := im c1_0 h
  by_cases c1_1 : p1 = 1
  · replace h := ip c1_1 h
    refine j_tabEq C dX2_count_1 c1_1 (a := 1) rfl (by decide) (by decide) rfl (tgt := 41) (by decide) ?_
    refine j_aload_n C dX2_count_41 rfl rfl ?_
    refine jm_geti hκ C 6 (by decide) rfl q1643 dX2_count_42 ?_
    obtain rfl := sp1 h
    exact j_iret C dX2_count_45 (Nat.zero_le _) (Nat.zero_le _) ⟨rfl, rfl⟩
  replace h := im c1_1 h
  by_cases c1_2 : p1 = 2
  · replace h := ip c1_2 h
    refine j_tabEq C dX2_count_1 c1_2 (a := 2) rfl (by decide) (by decide) rfl (tgt := 46) (by decide) ?_
    refine j_aload_n C dX2_count_46 rfl rfl ?_
    refine jm_geti hκ C 35 (by decide) rfl q1672 dX2_count_47 ?_
    obtain rfl := sp1 h
    exact j_iret C dX2_count_50 (Nat.zero_le _) (Nat.zero_le _) ⟨rfl, rfl⟩
  replace h := im c1_2 h
  by_cases c1_3 : p1 = 3
  · replace h := ip c1_3 h
    refine j_tabEq C dX2_count_1 c1_3 (a := 3) rfl (by decide) (by decide) rfl (tgt := 51) (by decide) ?_
    refine j_aload_n C dX2_count_51 rfl rfl ?_
    refine jm_geti hκ C 37 (by decide) rfl q1674 dX2_count_52 ?_
    obtain rfl := sp1 h
    exact j_iret C dX2_count_55 (Nat.zero_le _) (Nat.zero_le _) ⟨rfl, rfl⟩
  replace h := im c1_3 h
  by_cases c1_4 : p1 = 4
  · replace h := ip c1_4 h
    refine j_tabEq C dX2_count_1 c1_4 (a := 4) rfl (by decide) (by decide) rfl (tgt := 56) (by decide) ?_
    refine j_aload_n C dX2_count_56 rfl rfl ?_
    refine jm_geti hκ C 39 (by decide) rfl q1676 dX2_count_57 ?_
    obtain rfl := sp1 h
    exact j_iret C dX2_count_60 (Nat.zero_le _) (Nat.zero_le _) ⟨rfl, rfl⟩
  replace h := im c1_4 h
  refine j_tabDef C [0, 1, 2, 3, 4] dX2_count_1 ⟨tab_ne c1_0 rfl, tab_ne c1_1 rfl, tab_ne c1_2 rfl, tab_ne c1_3 rfl, tab_ne c1_4 rfl, trivial⟩ rfl rfl (tgt := 61) (by decide) ?_
  refine j_iconst C (v := (-1)) dX2_count_61 rfl ?_
  obtain rfl := sp1 h
  exact j_iret C dX2_count_62 (Nat.zero_le _) (Nat.zero_le _) ⟨rfl, rfl⟩
