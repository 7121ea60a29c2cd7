set_option maxRecDepth 100000
/-! posts -/
def x_posts_b36 (Q : Int32 → XS → Prop) (N : Nat) (l2 : Int32) (l3 : Int32) (l5 : Nat) : Nat → Nat → XS → Int32 → Int32 → Prop
  | 0, _, _, _, _ => False
  | n + 1, m, T, l4, l6 =>
    (if l3 ≤ l6 then
    Q l4 T
    else
    (if 9 ≤ (T.1 1) then
    Q l4 T
    else
    b2P (rowZ T l5 23) fun b1 z2 =>
    (if (l2 + (3 * l6)) < 0 ∨ z2.2.2.2.1 ≤ (l2 + (3 * l6)).toNatClampNeg then
    (if z2.2.2.2.1 < 2147483648 then
    budP m 16 fun m50 =>
    Q l4 T
    else False)
    else
    nmP ((rAt 23 z2 (l2 + (3 * l6)).toNatClampNeg).toInt32) fun x7 =>
    b2P (rowZ T l5 23) fun b8 z9 =>
    (if ((l2 + (3 * l6)) + 1) < 0 ∨ z9.2.2.2.1 ≤ ((l2 + (3 * l6)) + 1).toNatClampNeg then
    (if z9.2.2.2.1 < 2147483648 then
    budP m 16 fun m46 =>
    Q l4 T
    else False)
    else
    nmP ((rAt 23 z9 ((l2 + (3 * l6)) + 1).toNatClampNeg).toInt32) fun x14 =>
    b2P (rowZ T l5 23) fun b15 z16 =>
    (if ((l2 + (3 * l6)) + 2) < 0 ∨ z16.2.2.2.1 ≤ ((l2 + (3 * l6)) + 2).toNatClampNeg then
    (if z16.2.2.2.1 < 2147483648 then
    budP m 16 fun m42 =>
    Q l4 T
    else False)
    else
    nmP ((rAt 23 z16 ((l2 + (3 * l6)) + 2).toNatClampNeg).toInt32) fun x21 =>
    bindP (x_isCell x7) fun v23 =>
    (if (b2i v23) = 0 then
    Q l4 T
    else
    bindP (x_isCell x14) fun v25 =>
    (if (b2i v25) = 0 then
    Q l4 T
    else
    bindP (x_in x21 0 9) fun v27 =>
    (if (b2i v27) = 0 then
    Q l4 T
    else
    splP m fun m28 m29 =>
    x_addPost (fun v32 T33 =>
    bindP (v32) fun a34 =>
    bindP (getO T33 a34 3) fun q36 =>
    nmP (xO T33 a34 (oI q36 2 x21)) fun T38 =>
    nmP (l4 + 1) fun x39 =>
    nmP (l6 + 1) fun x40 =>
    x_posts_b36 Q N l2 l3 l5 n m29 T38 x39 x40) m28 T x7 x14))))))))
theorem wx_posts_b36 {κ : jK} (hκ : jX κ) (N : Nat) {MM : Nat} {Γ : jG} (C : jC κ Γ cX0_posts 10 RX0 (some .int)) (ht : jtab Γ [((22 : Nat), (126 : Nat), (152 : Nat), (133 : Nat)), ((127 : Nat), (149 : Nat), (152 : Nat), (133 : Nat)), ((22 : Nat), (126 : Nat), (157 : Nat), (135 : Nat)), ((127 : Nat), (149 : Nat), (157 : Nat), (135 : Nat)), ((22 : Nat), (126 : Nat), (162 : Nat), (137 : Nat)), ((127 : Nat), (149 : Nat), (162 : Nat), (137 : Nat))]) {G : Nat → Nat} (l2 : Int32) (l3 : Int32) (l5 : Nat) {Q : Int32 → XS → Prop} : ∀ (n : Nat) (m : Nat) (T : XS) (l4 : Int32) (l6 : Int32), x_posts_b36 Q N l2 l3 l5 n m T l4 l6 → ∀ k : Nat, k + m ≤ MM → J κ Γ (230, MM, 64 * MM, (fun u w' => ∃ v T', Q v T' ∧ u = some (.int v) ∧ w' = wX κ G T')) 10 (wX κ G T) k (64 * k) 36 [some (.ref (G 0)), none, some (.int l2), some (.int l3), some (.int l4), some (.ref l5), some (.int l6), none, none, none] [] := by
  intro n
  induction n with
  | zero => intro _ _ _ _ h; cases h
  | succ n ih =>
    intro m T l4 l6 h k hb
    rw [x_posts_b36] at h
    refine j_iload C dX0_posts_36 rfl ?_
    refine j_iload_n C dX0_posts_38 rfl rfl ?_
    refine j_icmp_ge C dX0_posts_39 (tgt := 149) (by decide) (fun c => ?_) (fun c => ?_)
    · replace h := ipP c h
      refine j_goto C dX0_posts_149 (tgt := 167) (by decide) ?_
      refine j_iload C dX0_posts_167 rfl ?_
      exact j_iret C dX0_posts_169 (by first | omega | (dsimp only; omega)) (by first | omega | (dsimp only; omega)) ⟨_, _, h, rfl, rfl⟩
    replace h := imP c h
    refine j_aload_n C dX0_posts_42 rfl rfl ?_
    refine jx_geti hκ C 1 (by decide) rfl q188 dX0_posts_43 ?_
    refine j_bipush C (v := 9) dX0_posts_46 rfl ?_
    refine j_icmp_ge C dX0_posts_48 (tgt := 149) (by decide) (fun c => ?_) (fun c => ?_)
    · replace h := ipP c h
      refine j_goto C dX0_posts_149 (tgt := 167) (by decide) ?_
      refine j_iload C dX0_posts_167 rfl ?_
      exact j_iret C dX0_posts_169 (by first | omega | (dsimp only; omega)) (by first | omega | (dsimp only; omega)) ⟨_, _, h, rfl, rfl⟩
    replace h := imP c h
    refine j_aload C dX0_posts_51 rfl ?_
    refine j_iload_n C dX0_posts_53 rfl rfl ?_
    refine j_iconst C (v := 3) dX0_posts_54 rfl ?_
    refine j_iload C dX0_posts_55 rfl ?_
    refine j_imul C dX0_posts_57 ?_
    refine j_iadd C dX0_posts_58 ?_
    obtain ⟨b1, z2, r3, h⟩ := ob2P h
    obtain ⟨q4, g5, -, -⟩ := rowZ_some r3
    by_cases c6 : (l2 + (3 * l6)) < 0 ∨ z2.2.2.2.1 ≤ (l2 + (3 * l6)).toNatClampNeg
    · replace h := ipP c6 h
      by_cases c49 : z2.2.2.2.1 < 2147483648
      · replace h := ipP c49 h
        obtain ⟨m50, e51, h⟩ := h
        have hb52 : k + 16 + m50 ≤ MM := by omega
        refine jx_VX hκ C ht (jcat_mk [(22, 126, 152, 133), (127, 149, 152, 133), (22, 126, 157, 135), (127, 149, 157, 135)] (22, 126, 162, 137) [(127, 149, 162, 137)] "java/lang/IndexOutOfBoundsException" rfl ⟨Or.inr ⟨by decide, "java/lang/ClassCastException", q381, by decide⟩, ⟨Or.inl (by decide), ⟨Or.inr ⟨by decide, "java/lang/NullPointerException", q465, by decide⟩, ⟨Or.inl (by decide), trivial⟩⟩⟩⟩ (by decide) (by decide) q490 q2253 rfl) (mt_r_atX23 hκ G r3 (fun f => f c6) c49) (lw_V q513 q514 q515 q151 q516) (N := 1) ⟨by decide, by decide, by decide +kernel⟩ rfl g5 (by decide) rfl rfl dX0_posts_59 ⟨Nat.le_of_ble_eq_true rfl, by decide, (by first | omega | (dsimp only; omega)), (by first | omega | (dsimp only; omega)), Nat.le_of_ble_eq_true rfl⟩ rfl (fun e => ?_)
        refine j_widen (k' := k + 16) (n' := 64 * (k + 16)) (by omega) (by omega) ?_
        refine j_astore C dX0_posts_162 (by decide) rfl ?_
        refine j_iload C dX0_posts_164 rfl ?_
        exact j_iret C dX0_posts_166 (by first | omega | (dsimp only; omega)) (by first | omega | (dsimp only; omega)) ⟨_, _, h, rfl, rfl⟩
      replace h := imP c49 h
      cases h
    replace h := imP c6 h
    refine jx_Ol hκ C (mt_r_at23 hκ G r3 c6) (lw_V q513 q514 q515 q151 q516) (N := 1) ⟨by decide, by decide, by decide +kernel⟩ rfl g5 (by decide) rfl rfl dX0_posts_59 (jfit.of (Nat.le_of_ble_eq_true rfl) (by decide) (by first | omega | (dsimp only; omega)) (by first | omega | (dsimp only; omega)) (Nat.le_of_ble_eq_true rfl)) rfl ?_
    refine j_l2i C dX0_posts_62 ?_
    refine j_nmIP h (fun x7 h => ?_)
    refine j_istore C dX0_posts_63 (by decide) rfl ?_
    refine j_aload C dX0_posts_65 rfl ?_
    refine j_iload_n C dX0_posts_67 rfl rfl ?_
    refine j_iconst C (v := 3) dX0_posts_68 rfl ?_
    refine j_iload C dX0_posts_69 rfl ?_
    refine j_imul C dX0_posts_71 ?_
    refine j_iadd C dX0_posts_72 ?_
    refine j_iconst C (v := 1) dX0_posts_73 rfl ?_
    refine j_iadd C dX0_posts_74 ?_
    obtain ⟨b8, z9, r10, h⟩ := ob2P h
    obtain ⟨q11, g12, -, -⟩ := rowZ_some r10
    by_cases c13 : ((l2 + (3 * l6)) + 1) < 0 ∨ z9.2.2.2.1 ≤ ((l2 + (3 * l6)) + 1).toNatClampNeg
    · replace h := ipP c13 h
      by_cases c45 : z9.2.2.2.1 < 2147483648
      · replace h := ipP c45 h
        obtain ⟨m46, e47, h⟩ := h
        have hb48 : k + 16 + m46 ≤ MM := by omega
        refine jx_VX hκ C ht (jcat_mk [(22, 126, 152, 133), (127, 149, 152, 133), (22, 126, 157, 135), (127, 149, 157, 135)] (22, 126, 162, 137) [(127, 149, 162, 137)] "java/lang/IndexOutOfBoundsException" rfl ⟨Or.inr ⟨by decide, "java/lang/ClassCastException", q381, by decide⟩, ⟨Or.inl (by decide), ⟨Or.inr ⟨by decide, "java/lang/NullPointerException", q465, by decide⟩, ⟨Or.inl (by decide), trivial⟩⟩⟩⟩ (by decide) (by decide) q490 q2253 rfl) (mt_r_atX23 hκ G r10 (fun f => f c13) c45) (lw_V q513 q514 q515 q151 q516) (N := 1) ⟨by decide, by decide, by decide +kernel⟩ rfl g12 (by decide) rfl rfl dX0_posts_75 ⟨Nat.le_of_ble_eq_true rfl, by decide, (by first | omega | (dsimp only; omega)), (by first | omega | (dsimp only; omega)), Nat.le_of_ble_eq_true rfl⟩ rfl (fun e => ?_)
        refine j_widen (k' := k + 16) (n' := 64 * (k + 16)) (by omega) (by omega) ?_
        refine j_astore C dX0_posts_162 (by decide) rfl ?_
        refine j_iload C dX0_posts_164 rfl ?_
        exact j_iret C dX0_posts_166 (by first | omega | (dsimp only; omega)) (by first | omega | (dsimp only; omega)) ⟨_, _, h, rfl, rfl⟩
      replace h := imP c45 h
      cases h
    replace h := imP c13 h
    refine jx_Ol hκ C (mt_r_at23 hκ G r10 c13) (lw_V q513 q514 q515 q151 q516) (N := 1) ⟨by decide, by decide, by decide +kernel⟩ rfl g12 (by decide) rfl rfl dX0_posts_75 (jfit.of (Nat.le_of_ble_eq_true rfl) (by decide) (by first | omega | (dsimp only; omega)) (by first | omega | (dsimp only; omega)) (Nat.le_of_ble_eq_true rfl)) rfl ?_
    refine j_l2i C dX0_posts_78 ?_
    refine j_nmIP h (fun x14 h => ?_)
    refine j_istore C dX0_posts_79 (by decide) rfl ?_
    refine j_aload C dX0_posts_81 rfl ?_
    refine j_iload_n C dX0_posts_83 rfl rfl ?_
    refine j_iconst C (v := 3) dX0_posts_84 rfl ?_
    refine j_iload C dX0_posts_85 rfl ?_
    refine j_imul C dX0_posts_87 ?_
    refine j_iadd C dX0_posts_88 ?_
    refine j_iconst C (v := 2) dX0_posts_89 rfl ?_
    refine j_iadd C dX0_posts_90 ?_
    obtain ⟨b15, z16, r17, h⟩ := ob2P h
    obtain ⟨q18, g19, -, -⟩ := rowZ_some r17
    by_cases c20 : ((l2 + (3 * l6)) + 2) < 0 ∨ z16.2.2.2.1 ≤ ((l2 + (3 * l6)) + 2).toNatClampNeg
    · replace h := ipP c20 h
      by_cases c41 : z16.2.2.2.1 < 2147483648
      · replace h := ipP c41 h
        obtain ⟨m42, e43, h⟩ := h
        have hb44 : k + 16 + m42 ≤ MM := by omega
        refine jx_VX hκ C ht (jcat_mk [(22, 126, 152, 133), (127, 149, 152, 133), (22, 126, 157, 135), (127, 149, 157, 135)] (22, 126, 162, 137) [(127, 149, 162, 137)] "java/lang/IndexOutOfBoundsException" rfl ⟨Or.inr ⟨by decide, "java/lang/ClassCastException", q381, by decide⟩, ⟨Or.inl (by decide), ⟨Or.inr ⟨by decide, "java/lang/NullPointerException", q465, by decide⟩, ⟨Or.inl (by decide), trivial⟩⟩⟩⟩ (by decide) (by decide) q490 q2253 rfl) (mt_r_atX23 hκ G r17 (fun f => f c20) c41) (lw_V q513 q514 q515 q151 q516) (N := 1) ⟨by decide, by decide, by decide +kernel⟩ rfl g19 (by decide) rfl rfl dX0_posts_91 ⟨Nat.le_of_ble_eq_true rfl, by decide, (by first | omega | (dsimp only; omega)), (by first | omega | (dsimp only; omega)), Nat.le_of_ble_eq_true rfl⟩ rfl (fun e => ?_)
        refine j_widen (k' := k + 16) (n' := 64 * (k + 16)) (by omega) (by omega) ?_
        refine j_astore C dX0_posts_162 (by decide) rfl ?_
        refine j_iload C dX0_posts_164 rfl ?_
        exact j_iret C dX0_posts_166 (by first | omega | (dsimp only; omega)) (by first | omega | (dsimp only; omega)) ⟨_, _, h, rfl, rfl⟩
      replace h := imP c41 h
      cases h
    replace h := imP c20 h
    refine jx_Ol hκ C (mt_r_at23 hκ G r17 c20) (lw_V q513 q514 q515 q151 q516) (N := 1) ⟨by decide, by decide, by decide +kernel⟩ rfl g19 (by decide) rfl rfl dX0_posts_91 (jfit.of (Nat.le_of_ble_eq_true rfl) (by decide) (by first | omega | (dsimp only; omega)) (by first | omega | (dsimp only; omega)) (Nat.le_of_ble_eq_true rfl)) rfl ?_
    refine j_l2i C dX0_posts_94 ?_
    refine j_nmIP h (fun x21 h => ?_)
    refine j_istore C dX0_posts_95 (by decide) rfl ?_
    refine j_iload C dX0_posts_97 rfl ?_
    obtain ⟨v23, e22, h⟩ := obP h
    refine j_Si hκ.1.1 C (mt_x_isCell hκ e22) hG_x_isCell hy_x_isCell rfl dX0_posts_99 (jfit.of (Nat.le_of_ble_eq_true rfl) (by decide) (by first | omega | (dsimp only; omega)) (by first | omega | (dsimp only; omega)) (Nat.le_of_ble_eq_true rfl)) rfl ?_
    refine j_if_eq C dX0_posts_102 (tgt := 124) (by decide) (fun c => ?_) (fun c => ?_)
    · replace h := ipP c h
      refine j_iload C dX0_posts_124 rfl ?_
      exact j_iret C dX0_posts_126 (by first | omega | (dsimp only; omega)) (by first | omega | (dsimp only; omega)) ⟨_, _, h, rfl, rfl⟩
    replace h := imP c h
    refine j_iload C dX0_posts_105 rfl ?_
    obtain ⟨v25, e24, h⟩ := obP h
    refine j_Si hκ.1.1 C (mt_x_isCell hκ e24) hG_x_isCell hy_x_isCell rfl dX0_posts_107 (jfit.of (Nat.le_of_ble_eq_true rfl) (by decide) (by first | omega | (dsimp only; omega)) (by first | omega | (dsimp only; omega)) (Nat.le_of_ble_eq_true rfl)) rfl ?_
    refine j_if_eq C dX0_posts_110 (tgt := 124) (by decide) (fun c => ?_) (fun c => ?_)
    · replace h := ipP c h
      refine j_iload C dX0_posts_124 rfl ?_
      exact j_iret C dX0_posts_126 (by first | omega | (dsimp only; omega)) (by first | omega | (dsimp only; omega)) ⟨_, _, h, rfl, rfl⟩
    replace h := imP c h
    refine j_iload C dX0_posts_113 rfl ?_
    refine j_iconst C (v := 0) dX0_posts_115 rfl ?_
    refine j_bipush C (v := 9) dX0_posts_116 rfl ?_
    obtain ⟨v27, e26, h⟩ := obP h
    refine j_Si hκ.1.1 C (mt_x_in hκ e26) hG_x_in hy_x_in rfl dX0_posts_118 (jfit.of (Nat.le_of_ble_eq_true rfl) (by decide) (by first | omega | (dsimp only; omega)) (by first | omega | (dsimp only; omega)) (Nat.le_of_ble_eq_true rfl)) rfl ?_
    refine j_if_ne C dX0_posts_121 (tgt := 127) (by decide) (fun c => ?_) (fun c => ?_)
    · replace h := imP c h
      refine j_aload_n C dX0_posts_127 rfl rfl ?_
      refine j_iload C dX0_posts_128 rfl ?_
      refine j_iload C dX0_posts_130 rfl ?_
      obtain ⟨m28, m29, e30, h⟩ := h
      have hb31 : k + m28 + m29 ≤ MM := by omega
      refine jx_VQB hκ C (mt_x_addPost hκ G h) hG_x_addPost hy_x_addPost rfl rfl dX0_posts_132 ⟨(Nat.le_of_ble_eq_true rfl), by decide, (by first | omega | (dsimp only; omega)), (by first | omega | (dsimp only; omega)), (Nat.le_of_ble_eq_true rfl)⟩ rfl (fun v32 T33 h => ?_)
      refine j_iload C dX0_posts_135 rfl ?_
      obtain ⟨a34, w35, h9⟩ := obP h
      subst w35
      replace h := h9
      obtain ⟨q36, g37, h⟩ := obP h
      refine jx_pi3N hκ C g37 2 (by decide) rfl rfl rfl q362 dX0_posts_137 ?_
      refine jx_nmTP h (fun T38 h => ?_)
      refine j_iincNP C h dX0_posts_140 rfl rfl (by decide) rfl (fun x39 h => ?_)
      refine j_iincNP C h dX0_posts_143 rfl rfl (by decide) rfl (fun x40 h => ?_)
      refine j_goto C dX0_posts_146 (tgt := 36) (by decide) ?_
      exact j_sub (ih _ _ _ _ h _ hb31) ⟨rfl, ⟨rfl, ⟨rfl, ⟨rfl, ⟨rfl, ⟨rfl, trivial⟩⟩⟩⟩⟩⟩
    replace h := ipP c h
    refine j_iload C dX0_posts_124 rfl ?_
    exact j_iret C dX0_posts_126 (by first | omega | (dsimp only; omega)) (by first | omega | (dsimp only; omega)) ⟨_, _, h, rfl, rfl⟩
def x_posts (Q : Int32 → XS → Prop) (N : Nat) (m : Nat) (T : XS) (p1 : Int32) (p2 : Int32) (p3 : Int32) : Prop :=
  bindP (x_isShelf p1) fun v2 =>
  (if (b2i v2) = 0 then
  Q (-1) T
  else
  bindP (x_in p3 1 9) fun v4 =>
  (if (b2i v4) = 0 then
  Q (-1) T
  else
  chkP 6 p1 (
  onlP (T.2.2.1 48 p1.toNatClampNeg) (
  (if p3 ≤ 0 then
  Q 0 T
  else
  (if 9 ≤ (T.1 1) then
  Q 0 T
  else
  budP m 1 fun m8 =>
  Q 0 T))) fun a11 =>
  bindP (T.2.2.2 a11) fun q13 =>
  (if q13.1 = 23 then
  x_posts_b36 Q N p2 p3 a11 N m T 0 0
  else if q13.1 ∈ [14, 15, 16, 17, 18, 19, 20, 21, 24, 25, 26, 27] then
  budP m 16 fun m17 =>
  Q (-12) T
  else False))))
theorem mt_x_posts {κ : jK} (hκ : jX κ) (N : Nat) (G : Nat → Nat) {m : Nat} {T : XS} {p1 : Int32} {p2 : Int32} {p3 : Int32} {Q : Int32 → XS → Prop} (h : x_posts Q N m T p1 p2 p3) : jM κ yX0_posts (wsW_ yX0_posts cX0_posts 10 (some .int) [((22 : Nat), (126 : Nat), (152 : Nat), (133 : Nat)), ((127 : Nat), (149 : Nat), (152 : Nat), (133 : Nat)), ((22 : Nat), (126 : Nat), (157 : Nat), (135 : Nat)), ((127 : Nat), (149 : Nat), (157 : Nat), (135 : Nat)), ((22 : Nat), (126 : Nat), (162 : Nat), (137 : Nat)), ((127 : Nat), (149 : Nat), (162 : Nat), (137 : Nat))]) 230 m (64 * m) [.ref (G 0), .int p1, .int p2, .int p3] (wX κ G T) (fun u w' => ∃ v T', Q v T' ∧ u = some (.int v) ∧ w' = wX κ G T') := by
  rw [x_posts] at h
  refine jM.ofH (by decide) rfl (Nat.le_of_ble_eq_true rfl) fun Γ C ht => ?_
  show J κ Γ (230, m, 64 * m, (fun u w' => ∃ v T', Q v T' ∧ u = some (.int v) ∧ w' = wX κ G T')) 10 (wX κ G T) 0 (64 * 0) 0 [some (.ref (G 0)), some (.int p1), some (.int p2), some (.int p3), none, none, none, none, none, none] []
  have hb : 0 + m ≤ m := by omega
  refine j_iload_n C dX0_posts_0 rfl rfl ?_
  obtain ⟨v2, e1, h⟩ := obP h
  refine j_Si hκ.1.1 C (mt_x_isShelf hκ e1) hG_x_isShelf hy_x_isShelf rfl dX0_posts_1 (jfit.of (Nat.le_of_ble_eq_true rfl) (by decide) (by first | omega | (dsimp only; omega)) (by first | omega | (dsimp only; omega)) (Nat.le_of_ble_eq_true rfl)) rfl ?_
  refine j_if_eq C dX0_posts_4 (tgt := 17) (by decide) (fun c => ?_) (fun c => ?_)
  · replace h := ipP c h
    refine j_iconst C (v := (-1)) dX0_posts_17 rfl ?_
    exact j_iret C dX0_posts_18 (by first | omega | (dsimp only; omega)) (by first | omega | (dsimp only; omega)) ⟨_, _, h, rfl, rfl⟩
  replace h := imP c h
  refine j_iload_n C dX0_posts_7 rfl rfl ?_
  refine j_iconst C (v := 1) dX0_posts_8 rfl ?_
  refine j_bipush C (v := 9) dX0_posts_9 rfl ?_
  obtain ⟨v4, e3, h⟩ := obP h
  refine j_Si hκ.1.1 C (mt_x_in hκ e3) hG_x_in hy_x_in rfl dX0_posts_11 (jfit.of (Nat.le_of_ble_eq_true rfl) (by decide) (by first | omega | (dsimp only; omega)) (by first | omega | (dsimp only; omega)) (Nat.le_of_ble_eq_true rfl)) rfl ?_
  refine j_if_ne C dX0_posts_14 (tgt := 19) (by decide) (fun c => ?_) (fun c => ?_)
  · replace h := imP c h
    refine j_iconst C (v := 0) dX0_posts_19 rfl ?_
    refine j_istore C dX0_posts_20 (by decide) rfl ?_
    refine j_aload_n C dX0_posts_22 rfl rfl ?_
    refine jx_geta hκ C 48 (by decide) rfl rfl q237 dX0_posts_23 ?_
    refine j_iload_n C dX0_posts_26 rfl rfl ?_
    obtain ⟨b5, h⟩ := chkP_some h
    refine jx_aald hκ C 48 rfl rfl b5 dX0_posts_27 ?_
    rcases onlP_some h with ⟨w12, h⟩ | ⟨a11, w12, h⟩
    · refine j_nul w12 ?_
      refine j_castN C dX0_posts_28 ?_
      refine j_astoreE (e := none) C dX0_posts_31 (by decide) rfl ?_
      refine j_iconst C (v := 0) dX0_posts_33 rfl ?_
      refine j_istore C dX0_posts_34 (by decide) rfl ?_
      refine j_iload C dX0_posts_36 rfl ?_
      refine j_iload_n C dX0_posts_38 rfl rfl ?_
      refine j_icmp_ge C dX0_posts_39 (tgt := 149) (by decide) (fun c => ?_) (fun c => ?_)
      · replace h := ipP c h
        refine j_goto C dX0_posts_149 (tgt := 167) (by decide) ?_
        refine j_iload C dX0_posts_167 rfl ?_
        exact j_iret C dX0_posts_169 (by first | omega | (dsimp only; omega)) (by first | omega | (dsimp only; omega)) ⟨_, _, h, rfl, rfl⟩
      replace h := imP c h
      refine j_aload_n C dX0_posts_42 rfl rfl ?_
      refine jx_geti hκ C 1 (by decide) rfl q188 dX0_posts_43 ?_
      refine j_bipush C (v := 9) dX0_posts_46 rfl ?_
      refine j_icmp_ge C dX0_posts_48 (tgt := 149) (by decide) (fun c => ?_) (fun c => ?_)
      · replace h := ipP c h
        refine j_goto C dX0_posts_149 (tgt := 167) (by decide) ?_
        refine j_iload C dX0_posts_167 rfl ?_
        exact j_iret C dX0_posts_169 (by first | omega | (dsimp only; omega)) (by first | omega | (dsimp only; omega)) ⟨_, _, h, rfl, rfl⟩
      replace h := imP c h
      refine j_aloadE (e := none) C dX0_posts_51 rfl ?_
      refine j_iload_n C dX0_posts_53 rfl rfl ?_
      refine j_iconst C (v := 3) dX0_posts_54 rfl ?_
      refine j_iload C dX0_posts_55 rfl ?_
      refine j_imul C dX0_posts_57 ?_
      refine j_iadd C dX0_posts_58 ?_
      obtain ⟨m8, e9, h⟩ := h
      have hb10 : 0 + 1 + m8 ≤ m := by omega
      refine j_nullX hκ C ht (As := [.int (p2 + (3 * 0))]) q513 (Or.inl q515) (Or.inr ⟨q514, _, _, _, q516⟩) ⟨by decide, by decide⟩ (by show _ = some 1; decide +kernel) dX0_posts_59 (jcat_mk [(22, 126, 152, 133), (127, 149, 152, 133)] (22, 126, 157, 135) [(127, 149, 157, 135), (22, 126, 162, 137), (127, 149, 162, 137)] "java/lang/NullPointerException" rfl ⟨Or.inr ⟨by decide, "java/lang/ClassCastException", q381, by decide⟩, ⟨Or.inl (by decide), trivial⟩⟩ (by decide) (by decide) q465 q487 rfl) rfl (Nat.le_of_ble_eq_true rfl) (by first | omega | (dsimp only; omega)) (by first | omega | (dsimp only; omega)) (Nat.le_of_ble_eq_true rfl) (fun e => ?_)
      refine j_widen (k' := 0 + 1) (n' := 64 * (0 + 1)) (by omega) (by omega) ?_
      refine j_astore C dX0_posts_157 (by decide) rfl ?_
      refine j_iload C dX0_posts_159 rfl ?_
      exact j_iret C dX0_posts_161 (by first | omega | (dsimp only; omega)) (by first | omega | (dsimp only; omega)) ⟨_, _, h, rfl, rfl⟩
    refine j_nn w12 ?_
    obtain ⟨q13, g14, h⟩ := obP h
    by_cases c15 : q13.1 = 23
    · replace h := ipP c15 h
      refine jx_castY hκ C q512 (getO_eq g14 c15) (by decide) rfl rfl (Or.inr rfl) dX0_posts_28 ?_
      refine j_astore C dX0_posts_31 (by decide) rfl ?_
      refine j_iconst C (v := 0) dX0_posts_33 rfl ?_
      refine j_istore C dX0_posts_34 (by decide) rfl ?_
      exact j_sub (wx_posts_b36 hκ N C ht _ _ _ N _ _ _ _ h _ hb) ⟨rfl, ⟨rfl, ⟨rfl, ⟨rfl, ⟨rfl, ⟨rfl, trivial⟩⟩⟩⟩⟩⟩
    replace h := imP c15 h
    by_cases c16 : q13.1 ∈ [14, 15, 16, 17, 18, 19, 20, 21, 24, 25, 26, 27]
    · replace h := ipP c16 h
      obtain ⟨m17, e18, h⟩ := h
      have hb19 : 0 + 16 + m17 ≤ m := by omega
      refine jx_castX hκ C ht q512 g14 c16 jbad_Byte dX0_posts_28 (jcat_mk [] (22, 126, 152, 133) [(127, 149, 152, 133), (22, 126, 157, 135), (127, 149, 157, 135), (22, 126, 162, 137), (127, 149, 162, 137)] "java/lang/ClassCastException" rfl trivial (by decide) (by decide) q381 q443 rfl) (Nat.le_of_ble_eq_true rfl) (by first | omega | (dsimp only; omega)) (by first | omega | (dsimp only; omega)) (Nat.le_of_ble_eq_true rfl) (fun e => ?_)
      refine j_widen (k' := 0 + 16) (n' := 64 * (0 + 16)) (by omega) (by omega) ?_
      refine j_astore C dX0_posts_152 (by decide) rfl ?_
      refine j_bipush C (v := (-12)) dX0_posts_154 rfl ?_
      exact j_iret C dX0_posts_156 (by first | omega | (dsimp only; omega)) (by first | omega | (dsimp only; omega)) ⟨_, _, h, rfl, rfl⟩
    replace h := imP c16 h
    cases h
  replace h := ipP c h
  refine j_iconst C (v := (-1)) dX0_posts_17 rfl ?_
  exact j_iret C dX0_posts_18 (by first | omega | (dsimp only; omega)) (by first | omega | (dsimp only; omega)) ⟨_, _, h, rfl, rfl⟩
