set_option maxRecDepth 100000
theorem hG_x_addPost : GoodIn lw_all (wsV "NineKeysRound" 117 yX0_addPost.cls yX0_addPost (ws_ yX0_addPost cX0_addPost 3 (some (.object "NineKeysRound$Post")))) := lw_V q348 q350 qs0 q113 q351
theorem hy_x_addPost : yX0_addPost.cls ≠ "java/lang/invoke/MethodHandle" ∧ yX0_addPost.cls ≠ "java/lang/invoke/VarHandle" ∧ (parseMethodDescriptor yX0_addPost.desc).map (fun d => d.parameters.length) = some 2 := ⟨by decide, by decide, by decide +kernel⟩
theorem hG_x_become : GoodIn lw_all (wsV "NineKeysRound" 185 yX0_become.cls yX0_become (ws_ yX0_become cX0_become 6 (some .int))) := lw_V q548 q550 qs7 q113 q551
theorem hy_x_become : yX0_become.cls ≠ "java/lang/invoke/MethodHandle" ∧ yX0_become.cls ≠ "java/lang/invoke/VarHandle" ∧ (parseMethodDescriptor yX0_become.desc).map (fun d => d.parameters.length) = some 4 := ⟨by decide, by decide, by decide +kernel⟩
theorem hG_x_made : GoodIn lw_all (wsV "NineKeysRound" 479 yX0_made.cls yX0_made (ws_ yX0_made cX0_made 2 (some (.object "NineKeysRound$Key")))) := lw_V q1158 q1160 qs55 q113 q1161
theorem hy_x_made : yX0_made.cls ≠ "java/lang/invoke/MethodHandle" ∧ yX0_made.cls ≠ "java/lang/invoke/VarHandle" ∧ (parseMethodDescriptor yX0_made.desc).map (fun d => d.parameters.length) = some 1 := ⟨by decide, by decide, by decide +kernel⟩
/-! addPost -/
def x_addPost (Q : (Option Nat) → XS → Prop) (m : Nat) (T : XS) (p1 : Int32) (p2 : Int32) : Prop :=
  budP m 1 fun m1 =>
  newP T fun q4 =>
  nmP (xO T q4 (mkO 3 [p1, p2, 1, 60] [])) fun T5 =>
  chkP 9 (T.1 1) (
  bindP (getO T5 q4 3) fun q9 =>
  nmP (xR T5 0 (T.1 1).toNatClampNeg (some q4)) fun T7 =>
  nmP (xI T7 1 ((T7.1 1) + 1)) fun T10 =>
  chkP 9 ((T10.1 1) - 1) (
  bindP (T10.2.2.1 0 ((T10.1 1) - 1).toNatClampNeg) fun a12 =>
  Q (some a12) T10))
theorem mt_x_addPost {κ : jK} (hκ : jX κ) (G : Nat → Nat) {m : Nat} {T : XS} {p1 : Int32} {p2 : Int32} {Q : (Option Nat) → XS → Prop} (h : x_addPost Q m T p1 p2) : jM κ yX0_addPost (ws_ yX0_addPost cX0_addPost 3 (some (.object "NineKeysRound$Post"))) 2 m (64 * m) [.ref (G 0), .int p1, .int p2] (wX κ G T) (fun u w' => ∃ v T', Q v T' ∧ u = some (va_rf v) ∧ w' = wX κ G T') := by
  rw [x_addPost] at h
  refine jM.of (by decide) rfl (Nat.le_of_ble_eq_true rfl) fun Γ C _ => ?_
  show J κ Γ (2, m, 64 * m, (fun u w' => ∃ v T', Q v T' ∧ u = some (va_rf v) ∧ w' = wX κ G T')) 3 (wX κ G T) 0 (64 * 0) 0 [some (.ref (G 0)), some (.int p1), some (.int p2)] []
  have hb : 0 + m ≤ m := by omega
  refine j_aload_n C dX0_addPost_0 rfl rfl ?_
  refine jx_geta hκ C 0 (by decide) rfl rfl q187 dX0_addPost_1 ?_
  refine j_aload_n C dX0_addPost_4 rfl rfl ?_
  refine jx_geti hκ C 1 (by decide) rfl q188 dX0_addPost_5 ?_
  obtain ⟨m1, e2, h⟩ := h
  have hb3 : 0 + 1 + m1 ≤ m := by omega
  refine jx_newB hκ C 3 in_X3 tyX3 tyX3_ok q165 q352 q116 rfl (by intro j hj; rcases j with _ | _ | _ | _ | _ | j <;> first | rfl | omega) (by decide) (by first | omega | (dsimp only; omega)) (by first | omega | (dsimp only; omega)) dX0_addPost_8 h (fun q4 h => ?_)
  refine j_dup C dX0_addPost_11 rfl ?_
  refine j_iload_n C dX0_addPost_12 rfl rfl ?_
  refine j_iload_n C dX0_addPost_13 rfl rfl ?_
  refine jx_I hκ C (mt_n3 hκ G _ _ p1 p2) q355 q116 q353 q354 rfl (N := 2) ⟨by decide, by decide, by decide +kernel⟩ rfl dX0_addPost_14 ⟨Nat.le_of_ble_eq_true rfl, by decide, (by first | omega | (dsimp only; omega)), (by first | omega | (dsimp only; omega)), Nat.le_of_ble_eq_true rfl⟩ rfl ?_
  refine jx_nmTP h (fun T5 h => ?_)
  obtain ⟨b6, h⟩ := chkP_some h
  obtain ⟨q9, g8, h⟩ := obP h
  refine jx_aast hκ C 0 rfl (E := _) rfl b6 g8 (by decide) rfl rfl dX0_addPost_17 ?_
  refine jx_nmTP h (fun T7 h => ?_)
  refine j_aload_n C dX0_addPost_18 rfl rfl ?_
  refine j_dup C dX0_addPost_19 rfl ?_
  refine jx_geti hκ C 1 (by decide) rfl q188 dX0_addPost_20 ?_
  refine j_iconst C (v := 1) dX0_addPost_23 rfl ?_
  refine j_iadd C dX0_addPost_24 ?_
  refine jx_puti hκ C 1 (by decide) rfl rfl rfl q188 dX0_addPost_25 ?_
  refine jx_nmTP h (fun T10 h => ?_)
  refine j_aload_n C dX0_addPost_28 rfl rfl ?_
  refine jx_geta hκ C 0 (by decide) rfl rfl q187 dX0_addPost_29 ?_
  refine j_aload_n C dX0_addPost_32 rfl rfl ?_
  refine jx_geti hκ C 1 (by decide) rfl q188 dX0_addPost_33 ?_
  refine j_iconst C (v := 1) dX0_addPost_36 rfl ?_
  refine j_isub C dX0_addPost_37 ?_
  obtain ⟨b11, h⟩ := chkP_some h
  obtain ⟨a12, w13, h⟩ := obP h
  refine jx_aaldP hκ C 0 rfl rfl b11 w13 dX0_addPost_38 ?_
  exact j_aret C (e := (some a12)) (Or.inl ⟨_, rfl⟩) dX0_addPost_39 (by first | omega | (dsimp only; omega)) (by first | omega | (dsimp only; omega)) ⟨_, _, h, rfl, rfl⟩
/-! post -/
def x_post (Q : Int32 → XS → Prop) (m : Nat) (T : XS) (p1 : Int32) : Prop :=
  (if p1 < 0 then
  Q (-1) T
  else
  bindP (x_isCell (p1 / 100)) fun v2 =>
  (if (b2i v2) = 0 then
  Q (-1) T
  else
  bindP (x_isCell (jrem p1 100)) fun v4 =>
  (if (b2i v4) = 0 then
  Q (-1) T
  else
  (if (T.1 1) = 9 then
  Q (-3) T
  else
  splP m fun m5 m6 =>
  x_addPost (fun v9 T10 =>
  Q ((T10.1 1) - 1) T10) m5 T (jrem p1 100) (p1 / 100)))))
theorem mt_x_post {κ : jK} (hκ : jX κ) (G : Nat → Nat) {m : Nat} {T : XS} {p1 : Int32} {Q : Int32 → XS → Prop} (h : x_post Q m T p1) : jM κ yX0_post (ws_ yX0_post cX0_post 2 (some .int)) 3 m (64 * m) [.ref (G 0), .int p1] (wX κ G T) (fun u w' => ∃ v T', Q v T' ∧ u = some (.int v) ∧ w' = wX κ G T') := by
  rw [x_post] at h
  refine jM.of (by decide) rfl (Nat.le_of_ble_eq_true rfl) fun Γ C _ => ?_
  show J κ Γ (3, m, 64 * m, (fun u w' => ∃ v T', Q v T' ∧ u = some (.int v) ∧ w' = wX κ G T')) 2 (wX κ G T) 0 (64 * 0) 0 [some (.ref (G 0)), some (.int p1)] []
  have hb : 0 + m ≤ m := by omega
  refine j_iload_n C dX0_post_0 rfl rfl ?_
  refine j_if_lt C dX0_post_1 (tgt := 24) (by decide) (fun c => ?_) (fun c => ?_)
  · replace h := ipP c h
    refine j_iconst C (v := (-1)) dX0_post_24 rfl ?_
    exact j_iret C dX0_post_25 (by first | omega | (dsimp only; omega)) (by first | omega | (dsimp only; omega)) ⟨_, _, h, rfl, rfl⟩
  replace h := imP c h
  refine j_iload_n C dX0_post_4 rfl rfl ?_
  refine j_bipush C (v := 100) dX0_post_5 rfl ?_
  refine j_idiv C dX0_post_7 (by decide) ?_
  obtain ⟨v2, e1, h⟩ := obP h
  refine j_Si hκ.1.1 C (mt_x_isCell hκ e1) hG_x_isCell hy_x_isCell rfl dX0_post_8 (jfit.of (Nat.le_of_ble_eq_true rfl) (by decide) (by first | omega | (dsimp only; omega)) (by first | omega | (dsimp only; omega)) (Nat.le_of_ble_eq_true rfl)) rfl ?_
  refine j_if_eq C dX0_post_11 (tgt := 24) (by decide) (fun c => ?_) (fun c => ?_)
  · replace h := ipP c h
    refine j_iconst C (v := (-1)) dX0_post_24 rfl ?_
    exact j_iret C dX0_post_25 (by first | omega | (dsimp only; omega)) (by first | omega | (dsimp only; omega)) ⟨_, _, h, rfl, rfl⟩
  replace h := imP c h
  refine j_iload_n C dX0_post_14 rfl rfl ?_
  refine j_bipush C (v := 100) dX0_post_15 rfl ?_
  refine j_irem C dX0_post_17 (by decide) ?_
  obtain ⟨v4, e3, h⟩ := obP h
  refine j_Si hκ.1.1 C (mt_x_isCell hκ e3) hG_x_isCell hy_x_isCell rfl dX0_post_18 (jfit.of (Nat.le_of_ble_eq_true rfl) (by decide) (by first | omega | (dsimp only; omega)) (by first | omega | (dsimp only; omega)) (Nat.le_of_ble_eq_true rfl)) rfl ?_
  refine j_if_ne C dX0_post_21 (tgt := 26) (by decide) (fun c => ?_) (fun c => ?_)
  · replace h := imP c h
    refine j_aload_n C dX0_post_26 rfl rfl ?_
    refine jx_geti hκ C 1 (by decide) rfl q188 dX0_post_27 ?_
    refine j_bipush C (v := 9) dX0_post_30 rfl ?_
    refine j_icmp_ne C dX0_post_32 (tgt := 38) (by decide) (fun c => ?_) (fun c => ?_)
    · replace h := imP c h
      refine j_aload_n C dX0_post_38 rfl rfl ?_
      refine j_iload_n C dX0_post_39 rfl rfl ?_
      refine j_bipush C (v := 100) dX0_post_40 rfl ?_
      refine j_irem C dX0_post_42 (by decide) ?_
      refine j_iload_n C dX0_post_43 rfl rfl ?_
      refine j_bipush C (v := 100) dX0_post_44 rfl ?_
      refine j_idiv C dX0_post_46 (by decide) ?_
      obtain ⟨m5, m6, e7, h⟩ := h
      have hb8 : 0 + m5 + m6 ≤ m := by omega
      refine jx_VQB hκ C (mt_x_addPost hκ G h) hG_x_addPost hy_x_addPost rfl rfl dX0_post_47 ⟨(Nat.le_of_ble_eq_true rfl), by decide, (by first | omega | (dsimp only; omega)), (by first | omega | (dsimp only; omega)), (Nat.le_of_ble_eq_true rfl)⟩ rfl (fun v9 T10 h => ?_)
      refine j_pop C dX0_post_50 (by cases v9 <;> rfl) ?_
      refine j_aload_n C dX0_post_51 rfl rfl ?_
      refine jx_geti hκ C 1 (by decide) rfl q188 dX0_post_52 ?_
      refine j_iconst C (v := 1) dX0_post_55 rfl ?_
      refine j_isub C dX0_post_56 ?_
      exact j_iret C dX0_post_57 (by first | omega | (dsimp only; omega)) (by first | omega | (dsimp only; omega)) ⟨_, _, h, rfl, rfl⟩
    replace h := ipP c h
    refine j_bipush C (v := (-3)) dX0_post_35 rfl ?_
    exact j_iret C dX0_post_37 (by first | omega | (dsimp only; omega)) (by first | omega | (dsimp only; omega)) ⟨_, _, h, rfl, rfl⟩
  replace h := ipP c h
  refine j_iconst C (v := (-1)) dX0_post_24 rfl ?_
  exact j_iret C dX0_post_25 (by first | omega | (dsimp only; omega)) (by first | omega | (dsimp only; omega)) ⟨_, _, h, rfl, rfl⟩
/-! become -/
def x_become_b64 (Q : Int32 → XS → Prop) (N : Nat) (l1 : Int32) (l2 : Int32) (l3 : Int32) (l4 : Int32) (m : Nat) (T : XS) : Prop :=
  budP m 1 fun m1 =>
  newP T fun q4 =>
  nmP (xO T q4 (mkO 4 [l1, l2, l3, l4] [])) fun T5 =>
  chkP 40 (T.1 7) (
  bindP (getO T5 q4 4) fun q9 =>
  nmP (xR T5 6 (T.1 7).toNatClampNeg (some q4)) fun T7 =>
  nmP (xI T7 7 ((T7.1 7) + 1)) fun T10 =>
  bindP (x_setTo T10 l1 l2 l4) fun T13 =>
  Q l3 T13)
theorem wx_become_b64 {κ : jK} (hκ : jX κ) (N : Nat) {MM : Nat} {Γ : jG} (C : jC κ Γ cX0_become 6 RX0 (some .int)) {G : Nat → Nat} (l1 : Int32) (l2 : Int32) (l3 : Int32) (l4 : Int32) {Q : Int32 → XS → Prop} : ∀ (m : Nat) (T : XS), x_become_b64 Q N l1 l2 l3 l4 m T → ∀ k : Nat, k + m ≤ MM → J κ Γ (2, MM, 64 * MM, (fun u w' => ∃ v T', Q v T' ∧ u = some (.int v) ∧ w' = wX κ G T')) 6 (wX κ G T) k (64 * k) 64 [some (.ref (G 0)), some (.int l1), some (.int l2), some (.int l3), some (.int l4), none] [] := by
  intro m T h k hb
  rw [x_become_b64] at h
  refine j_aload_n C dX0_become_64 rfl rfl ?_
  refine jx_geta hκ C 6 (by decide) rfl rfl q193 dX0_become_65 ?_
  refine j_aload_n C dX0_become_68 rfl rfl ?_
  refine jx_geti hκ C 7 (by decide) rfl q194 dX0_become_69 ?_
  obtain ⟨m1, e2, h⟩ := h
  have hb3 : k + 1 + m1 ≤ MM := by omega
  refine jx_newB hκ C 4 in_X4 tyX4 tyX4_ok q167 q552 q125 rfl (by intro j hj; rcases j with _ | _ | _ | _ | _ | j <;> first | rfl | omega) (by decide) (by first | omega | (dsimp only; omega)) (by first | omega | (dsimp only; omega)) dX0_become_72 h (fun q4 h => ?_)
  refine j_dup C dX0_become_75 rfl ?_
  refine j_iload_n C dX0_become_76 rfl rfl ?_
  refine j_iload_n C dX0_become_77 rfl rfl ?_
  refine j_iload_n C dX0_become_78 rfl rfl ?_
  refine j_iload C dX0_become_79 rfl ?_
  refine jx_I hκ C (mt_n4 hκ G _ _ l1 l2 l3 l4) q555 q125 q553 q554 rfl (N := 4) ⟨by decide, by decide, by decide +kernel⟩ rfl dX0_become_81 ⟨Nat.le_of_ble_eq_true rfl, by decide, (by first | omega | (dsimp only; omega)), (by first | omega | (dsimp only; omega)), Nat.le_of_ble_eq_true rfl⟩ rfl ?_
  refine jx_nmTP h (fun T5 h => ?_)
  obtain ⟨b6, h⟩ := chkP_some h
  obtain ⟨q9, g8, h⟩ := obP h
  refine jx_aast hκ C 6 rfl (E := _) rfl b6 g8 (by decide) rfl rfl dX0_become_84 ?_
  refine jx_nmTP h (fun T7 h => ?_)
  refine j_aload_n C dX0_become_85 rfl rfl ?_
  refine j_dup C dX0_become_86 rfl ?_
  refine jx_geti hκ C 7 (by decide) rfl q194 dX0_become_87 ?_
  refine j_iconst C (v := 1) dX0_become_90 rfl ?_
  refine j_iadd C dX0_become_91 ?_
  refine jx_puti hκ C 7 (by decide) rfl rfl rfl q194 dX0_become_92 ?_
  refine jx_nmTP h (fun T10 h => ?_)
  refine j_aload_n C dX0_become_95 rfl rfl ?_
  refine j_iload_n C dX0_become_96 rfl rfl ?_
  refine j_iload_n C dX0_become_97 rfl rfl ?_
  refine j_iload C dX0_become_98 rfl ?_
  obtain ⟨T13, e11, h⟩ := obP h
  refine jx_Vv hκ C (mt_x_setTo hκ G e11) hG_x_setTo hy_x_setTo rfl rfl dX0_become_100 (jfit.of (Nat.le_of_ble_eq_true rfl) (by decide) (by first | omega | (dsimp only; omega)) (by first | omega | (dsimp only; omega)) (Nat.le_of_ble_eq_true rfl)) rfl ?_
  refine j_iload_n C dX0_become_103 rfl rfl ?_
  exact j_iret C dX0_become_104 (by first | omega | (dsimp only; omega)) (by first | omega | (dsimp only; omega)) ⟨_, _, h, rfl, rfl⟩
def x_become_b25 (Q : Int32 → XS → Prop) (N : Nat) (l1 : Int32) (l2 : Int32) (l3 : Int32) (l4 : Int32) : Nat → Nat → XS → Int32 → Prop
  | 0, _, _, _ => False
  | n + 1, m, T, l5 =>
    (if 40 ≤ l5 then
    nmP (xI T 7 ((T.1 7) - 1)) fun T1 =>
    x_become_b64 Q N l1 l2 l3 l4 m T1
    else
    chkP 40 l5 (
    bindP (T.2.2.1 6 l5.toNatClampNeg) fun a3 =>
    chkP 40 (l5 - 1) (
    bindP (getO T a3 4) fun q8 =>
    nmP (xR T 6 (l5 - 1).toNatClampNeg (some a3)) fun T6 =>
    nmP (l5 + 1) fun x9 =>
    x_become_b25 Q N l1 l2 l3 l4 n m T6 x9)))
theorem wx_become_b25 {κ : jK} (hκ : jX κ) (N : Nat) {MM : Nat} {Γ : jG} (C : jC κ Γ cX0_become 6 RX0 (some .int)) {G : Nat → Nat} (l1 : Int32) (l2 : Int32) (l3 : Int32) (l4 : Int32) {Q : Int32 → XS → Prop} : ∀ (n : Nat) (m : Nat) (T : XS) (l5 : Int32), x_become_b25 Q N l1 l2 l3 l4 n m T l5 → ∀ k : Nat, k + m ≤ MM → J κ Γ (2, MM, 64 * MM, (fun u w' => ∃ v T', Q v T' ∧ u = some (.int v) ∧ w' = wX κ G T')) 6 (wX κ G T) k (64 * k) 25 [some (.ref (G 0)), some (.int l1), some (.int l2), some (.int l3), some (.int l4), some (.int l5)] [] := by
  intro n
  induction n with
  | zero => intro _ _ _ h; cases h
  | succ n ih =>
    intro m T l5 h k hb
    rw [x_become_b25] at h
    refine j_iload C dX0_become_25 rfl ?_
    refine j_bipush C (v := 40) dX0_become_27 rfl ?_
    refine j_icmp_ge C dX0_become_29 (tgt := 54) (by decide) (fun c => ?_) (fun c => ?_)
    · replace h := ipP c h
      refine j_aload_n C dX0_become_54 rfl rfl ?_
      refine j_dup C dX0_become_55 rfl ?_
      refine jx_geti hκ C 7 (by decide) rfl q194 dX0_become_56 ?_
      refine j_iconst C (v := 1) dX0_become_59 rfl ?_
      refine j_isub C dX0_become_60 ?_
      refine jx_puti hκ C 7 (by decide) rfl rfl rfl q194 dX0_become_61 ?_
      refine jx_nmTP h (fun T1 h => ?_)
      exact j_sub (wx_become_b64 hκ N C _ _ _ _ _ _ h _ hb) ⟨rfl, ⟨rfl, ⟨rfl, ⟨rfl, ⟨rfl, trivial⟩⟩⟩⟩⟩
    replace h := imP c h
    refine j_aload_n C dX0_become_32 rfl rfl ?_
    refine jx_geta hκ C 6 (by decide) rfl rfl q193 dX0_become_33 ?_
    refine j_iload C dX0_become_36 rfl ?_
    refine j_iconst C (v := 1) dX0_become_38 rfl ?_
    refine j_isub C dX0_become_39 ?_
    refine j_aload_n C dX0_become_40 rfl rfl ?_
    refine jx_geta hκ C 6 (by decide) rfl rfl q193 dX0_become_41 ?_
    refine j_iload C dX0_become_44 rfl ?_
    obtain ⟨b2, h⟩ := chkP_some h
    obtain ⟨a3, w4, h⟩ := obP h
    refine jx_aaldP hκ C 6 rfl rfl b2 w4 dX0_become_46 ?_
    obtain ⟨b5, h⟩ := chkP_some h
    obtain ⟨q8, g7, h⟩ := obP h
    refine jx_aast hκ C 6 rfl (E := _) rfl b5 g7 (by decide) rfl rfl dX0_become_47 ?_
    refine jx_nmTP h (fun T6 h => ?_)
    refine j_iincNP C h dX0_become_48 rfl rfl (by decide) rfl (fun x9 h => ?_)
    refine j_goto C dX0_become_51 (tgt := 25) (by decide) ?_
    exact j_sub (ih _ _ _ h _ hb) ⟨rfl, ⟨rfl, ⟨rfl, ⟨rfl, ⟨rfl, ⟨rfl, trivial⟩⟩⟩⟩⟩⟩
def x_become (Q : Int32 → XS → Prop) (N : Nat) (m : Nat) (T : XS) (p1 : Int32) (p2 : Int32) (p3 : Int32) (p4 : Int32) : Prop :=
  (if p3 = p4 then
  Q p3 T
  else
  nmP (xI T 8 0) fun T1 =>
  (if (T1.1 7) = 40 then
  x_become_b25 Q N p1 p2 p3 p4 N m T1 1
  else
  x_become_b64 Q N p1 p2 p3 p4 m T1))
theorem mt_x_become {κ : jK} (hκ : jX κ) (N : Nat) (G : Nat → Nat) {m : Nat} {T : XS} {p1 : Int32} {p2 : Int32} {p3 : Int32} {p4 : Int32} {Q : Int32 → XS → Prop} (h : x_become Q N m T p1 p2 p3 p4) : jM κ yX0_become (ws_ yX0_become cX0_become 6 (some .int)) 2 m (64 * m) [.ref (G 0), .int p1, .int p2, .int p3, .int p4] (wX κ G T) (fun u w' => ∃ v T', Q v T' ∧ u = some (.int v) ∧ w' = wX κ G T') := by
  rw [x_become] at h
  refine jM.of (by decide) rfl (Nat.le_of_ble_eq_true rfl) fun Γ C _ => ?_
  show J κ Γ (2, m, 64 * m, (fun u w' => ∃ v T', Q v T' ∧ u = some (.int v) ∧ w' = wX κ G T')) 6 (wX κ G T) 0 (64 * 0) 0 [some (.ref (G 0)), some (.int p1), some (.int p2), some (.int p3), some (.int p4), none] []
  have hb : 0 + m ≤ m := by omega
  refine j_iload_n C dX0_become_0 rfl rfl ?_
  refine j_iload C dX0_become_1 rfl ?_
  refine j_icmp_ne C dX0_become_3 (tgt := 8) (by decide) (fun c => ?_) (fun c => ?_)
  · replace h := imP c h
    refine j_aload_n C dX0_become_8 rfl rfl ?_
    refine j_iconst C (v := 0) dX0_become_9 rfl ?_
    refine jx_puti hκ C 8 (by decide) rfl rfl rfl q195 dX0_become_10 ?_
    refine jx_nmTP h (fun T1 h => ?_)
    refine j_aload_n C dX0_become_13 rfl rfl ?_
    refine jx_geti hκ C 7 (by decide) rfl q194 dX0_become_14 ?_
    refine j_bipush C (v := 40) dX0_become_17 rfl ?_
    refine j_icmp_ne C dX0_become_19 (tgt := 64) (by decide) (fun c => ?_) (fun c => ?_)
    · replace h := imP c h
      exact j_sub (wx_become_b64 hκ N C _ _ _ _ _ _ h _ hb) ⟨rfl, ⟨rfl, ⟨rfl, ⟨rfl, ⟨rfl, trivial⟩⟩⟩⟩⟩
    replace h := ipP c h
    refine j_iconst C (v := 1) dX0_become_22 rfl ?_
    refine j_istore C dX0_become_23 (by decide) rfl ?_
    exact j_sub (wx_become_b25 hκ N C _ _ _ _ N _ _ _ h _ hb) ⟨rfl, ⟨rfl, ⟨rfl, ⟨rfl, ⟨rfl, ⟨rfl, trivial⟩⟩⟩⟩⟩⟩
  replace h := ipP c h
  refine j_iload_n C dX0_become_6 rfl rfl ?_
  exact j_iret C dX0_become_7 (by first | omega | (dsimp only; omega)) (by first | omega | (dsimp only; omega)) ⟨_, _, h, rfl, rfl⟩
/-! mend -/
def x_mend (Q : Int32 → XS → Prop) (N : Nat) (m : Nat) (T : XS) (p1 : Int32) (p2 : Int32) (p3 : Int32) : Prop :=
  bindP (x_isOf T p1 p2) fun v2 =>
  (if (b2i v2) = 0 then
  Q (-1) T
  else
  bindP (x_mayBe p2 p3) fun v4 =>
  (if (b2i v4) = 0 then
  Q (-1) T
  else
  bindP (x_valueOf T p1 p2) fun v6 =>
  splP m fun m7 m8 =>
  x_become (fun v11 T12 =>
  Q v11 T12) N m7 T p2 p1 v6 p3))
theorem mt_x_mend {κ : jK} (hκ : jX κ) (N : Nat) (G : Nat → Nat) {m : Nat} {T : XS} {p1 : Int32} {p2 : Int32} {p3 : Int32} {Q : Int32 → XS → Prop} (h : x_mend Q N m T p1 p2 p3) : jM κ yX0_mend (ws_ yX0_mend cX0_mend 4 (some .int)) 3 m (64 * m) [.ref (G 0), .int p1, .int p2, .int p3] (wX κ G T) (fun u w' => ∃ v T', Q v T' ∧ u = some (.int v) ∧ w' = wX κ G T') := by
  rw [x_mend] at h
  refine jM.of (by decide) rfl (Nat.le_of_ble_eq_true rfl) fun Γ C _ => ?_
  show J κ Γ (3, m, 64 * m, (fun u w' => ∃ v T', Q v T' ∧ u = some (.int v) ∧ w' = wX κ G T')) 4 (wX κ G T) 0 (64 * 0) 0 [some (.ref (G 0)), some (.int p1), some (.int p2), some (.int p3)] []
  have hb : 0 + m ≤ m := by omega
  refine j_aload_n C dX0_mend_0 rfl rfl ?_
  refine j_iload_n C dX0_mend_1 rfl rfl ?_
  refine j_iload_n C dX0_mend_2 rfl rfl ?_
  obtain ⟨v2, e1, h⟩ := obP h
  refine jx_Vi hκ C (mt_x_isOf hκ G e1) hG_x_isOf hy_x_isOf rfl rfl dX0_mend_3 (jfit.of (Nat.le_of_ble_eq_true rfl) (by decide) (by first | omega | (dsimp only; omega)) (by first | omega | (dsimp only; omega)) (Nat.le_of_ble_eq_true rfl)) rfl ?_
  refine j_if_eq C dX0_mend_6 (tgt := 33) (by decide) (fun c => ?_) (fun c => ?_)
  · replace h := ipP c h
    refine j_iconst C (v := (-1)) dX0_mend_33 rfl ?_
    exact j_iret C dX0_mend_34 (by first | omega | (dsimp only; omega)) (by first | omega | (dsimp only; omega)) ⟨_, _, h, rfl, rfl⟩
  replace h := imP c h
  refine j_iload_n C dX0_mend_9 rfl rfl ?_
  refine j_iload_n C dX0_mend_10 rfl rfl ?_
  obtain ⟨v4, e3, h⟩ := obP h
  refine j_Si hκ.1.1 C (mt_x_mayBe hκ e3) hG_x_mayBe hy_x_mayBe rfl dX0_mend_11 (jfit.of (Nat.le_of_ble_eq_true rfl) (by decide) (by first | omega | (dsimp only; omega)) (by first | omega | (dsimp only; omega)) (Nat.le_of_ble_eq_true rfl)) rfl ?_
  refine j_if_eq C dX0_mend_14 (tgt := 33) (by decide) (fun c => ?_) (fun c => ?_)
  · replace h := ipP c h
    refine j_iconst C (v := (-1)) dX0_mend_33 rfl ?_
    exact j_iret C dX0_mend_34 (by first | omega | (dsimp only; omega)) (by first | omega | (dsimp only; omega)) ⟨_, _, h, rfl, rfl⟩
  replace h := imP c h
  refine j_aload_n C dX0_mend_17 rfl rfl ?_
  refine j_iload_n C dX0_mend_18 rfl rfl ?_
  refine j_iload_n C dX0_mend_19 rfl rfl ?_
  refine j_aload_n C dX0_mend_20 rfl rfl ?_
  refine j_iload_n C dX0_mend_21 rfl rfl ?_
  refine j_iload_n C dX0_mend_22 rfl rfl ?_
  obtain ⟨v6, e5, h⟩ := obP h
  refine jx_Vi hκ C (mt_x_valueOf hκ G e5) hG_x_valueOf hy_x_valueOf rfl rfl dX0_mend_23 (jfit.of (Nat.le_of_ble_eq_true rfl) (by decide) (by first | omega | (dsimp only; omega)) (by first | omega | (dsimp only; omega)) (Nat.le_of_ble_eq_true rfl)) rfl ?_
  refine j_iload_n C dX0_mend_26 rfl rfl ?_
  obtain ⟨m7, m8, e9, h⟩ := h
  have hb10 : 0 + m7 + m8 ≤ m := by omega
  refine jx_VQB hκ C (mt_x_become hκ N G h) hG_x_become hy_x_become rfl rfl dX0_mend_27 ⟨(Nat.le_of_ble_eq_true rfl), by decide, (by first | omega | (dsimp only; omega)), (by first | omega | (dsimp only; omega)), (Nat.le_of_ble_eq_true rfl)⟩ rfl (fun v11 T12 h => ?_)
  refine j_goto C dX0_mend_30 (tgt := 34) (by decide) ?_
  exact j_iret C dX0_mend_34 (by first | omega | (dsimp only; omega)) (by first | omega | (dsimp only; omega)) ⟨_, _, h, rfl, rfl⟩
/-! made -/
def x_made (Q : (Option Nat) → XS → Prop) (m : Nat) (T : XS) (p1 : Int32) : Prop :=
  (if p1 = 1 then
  budP m 1 fun m1 =>
  newP T fun q4 =>
  nmP (xO T q4 (mkO 15 [((xO T q4 (rawO 15)).1 47)] [])) fun T5 =>
  Q (some q4) T5
  else if p1 = 2 then
  budP m 1 fun m6 =>
  newP T fun q9 =>
  nmP (xO T q9 (mkO 16 [((xO T q9 (rawO 16)).1 47)] [])) fun T10 =>
  Q (some q9) T10
  else if p1 = 3 then
  budP m 1 fun m11 =>
  newP T fun q14 =>
  nmP (xO T q14 (mkO 17 [((xO T q14 (rawO 17)).1 47)] [])) fun T15 =>
  Q (some q14) T15
  else if p1 = 4 then
  budP m 1 fun m16 =>
  newP T fun q19 =>
  nmP (xO T q19 (mkO 18 [((xO T q19 (rawO 18)).1 47)] [])) fun T20 =>
  Q (some q19) T20
  else if p1 = 5 then
  budP m 1 fun m21 =>
  newP T fun q24 =>
  nmP (xO T q24 (mkO 19 [((xO T q24 (rawO 19)).1 47)] [])) fun T25 =>
  Q (some q24) T25
  else if p1 = 6 then
  budP m 1 fun m26 =>
  newP T fun q29 =>
  nmP (xO T q29 (mkO 20 [((xO T q29 (rawO 20)).1 47)] [])) fun T30 =>
  Q (some q29) T30
  else if p1 = 7 then
  budP m 1 fun m31 =>
  newP T fun q34 =>
  nmP (xO T q34 (mkO 21 [((xO T q34 (rawO 21)).1 47)] [])) fun T35 =>
  Q (some q34) T35
  else 
  budP m 1 fun m36 =>
  newP T fun q39 =>
  nmP (xO T q39 (mkO 14 [((xO T q39 (rawO 14)).1 47)] [])) fun T40 =>
  Q (some q39) T40)
theorem mt_x_made {κ : jK} (hκ : jX κ) (G : Nat → Nat) {m : Nat} {T : XS} {p1 : Int32} {Q : (Option Nat) → XS → Prop} (h : x_made Q m T p1) : jM κ yX0_made (ws_ yX0_made cX0_made 2 (some (.object "NineKeysRound$Key"))) 6 m (64 * m) [.ref (G 0), .int p1] (wX κ G T) (fun u w' => ∃ v T', Q v T' ∧ u = some (va_rf v) ∧ w' = wX κ G T') := by
  rw [x_made] at h
  refine jM.of (by decide) rfl (Nat.le_of_ble_eq_true rfl) fun Γ C _ => ?_
  show J κ Γ (6, m, 64 * m, (fun u w' => ∃ v T', Q v T' ∧ u = some (va_rf v) ∧ w' = wX κ G T')) 2 (wX κ G T) 0 (64 * 0) 0 [some (.ref (G 0)), some (.int p1)] []
  have hb : 0 + m ≤ m := by omega
  refine j_iload_n C dX0_made_0 rfl rfl ?_
  by_cases c1_0 : p1 = 1
  · replace h := ipP c1_0 h
    refine j_tabEq C dX0_made_1 c1_0 (a := 1) rfl (by decide) (by decide) rfl (tgt := 44) (by decide) ?_
    obtain ⟨m1, e2, h⟩ := h
    have hb3 : 0 + 1 + m1 ≤ m := by omega
    refine jx_newB hκ C 15 in_X15 tyX15 tyX15_ok q1162 q1163 q142 rfl (by intro j hj; rcases j with _ | _ | _ | _ | _ | j <;> first | rfl | omega) (by decide) (by first | omega | (dsimp only; omega)) (by first | omega | (dsimp only; omega)) dX0_made_44 h (fun q4 h => ?_)
    refine j_dup C dX0_made_47 rfl ?_
    refine j_aload_n C dX0_made_48 rfl rfl ?_
    refine j_aload_n C dX0_made_49 rfl rfl ?_
    refine jx_geti hκ C 47 (by decide) rfl q236 dX0_made_50 ?_
    refine jx_I hκ C (mt_n15 hκ G _ _ ((xO T q4 (rawO 15)).1 47)) q1166 q142 q1164 q1165 rfl (N := 2) ⟨by decide, by decide, by decide +kernel⟩ rfl dX0_made_53 ⟨Nat.le_of_ble_eq_true rfl, by decide, (by first | omega | (dsimp only; omega)), (by first | omega | (dsimp only; omega)), Nat.le_of_ble_eq_true rfl⟩ rfl ?_
    refine jx_nmTP h (fun T5 h => ?_)
    exact j_aret C (e := (some q4)) (Or.inl ⟨_, rfl⟩) dX0_made_56 (by first | omega | (dsimp only; omega)) (by first | omega | (dsimp only; omega)) ⟨_, _, h, rfl, rfl⟩
  replace h := imP c1_0 h
  by_cases c1_1 : p1 = 2
  · replace h := ipP c1_1 h
    refine j_tabEq C dX0_made_1 c1_1 (a := 2) rfl (by decide) (by decide) rfl (tgt := 57) (by decide) ?_
    obtain ⟨m6, e7, h⟩ := h
    have hb8 : 0 + 1 + m6 ≤ m := by omega
    refine jx_newB hκ C 16 in_X16 tyX16 tyX16_ok q1184 q1185 q143 rfl (by intro j hj; rcases j with _ | _ | _ | _ | _ | j <;> first | rfl | omega) (by decide) (by first | omega | (dsimp only; omega)) (by first | omega | (dsimp only; omega)) dX0_made_57 h (fun q9 h => ?_)
    refine j_dup C dX0_made_60 rfl ?_
    refine j_aload_n C dX0_made_61 rfl rfl ?_
    refine j_aload_n C dX0_made_62 rfl rfl ?_
    refine jx_geti hκ C 47 (by decide) rfl q236 dX0_made_63 ?_
    refine jx_I hκ C (mt_n16 hκ G _ _ ((xO T q9 (rawO 16)).1 47)) q1188 q143 q1186 q1187 rfl (N := 2) ⟨by decide, by decide, by decide +kernel⟩ rfl dX0_made_66 ⟨Nat.le_of_ble_eq_true rfl, by decide, (by first | omega | (dsimp only; omega)), (by first | omega | (dsimp only; omega)), Nat.le_of_ble_eq_true rfl⟩ rfl ?_
    refine jx_nmTP h (fun T10 h => ?_)
    exact j_aret C (e := (some q9)) (Or.inl ⟨_, rfl⟩) dX0_made_69 (by first | omega | (dsimp only; omega)) (by first | omega | (dsimp only; omega)) ⟨_, _, h, rfl, rfl⟩
  replace h := imP c1_1 h
  by_cases c1_2 : p1 = 3
  · replace h := ipP c1_2 h
    refine j_tabEq C dX0_made_1 c1_2 (a := 3) rfl (by decide) (by decide) rfl (tgt := 70) (by decide) ?_
    obtain ⟨m11, e12, h⟩ := h
    have hb13 : 0 + 1 + m11 ≤ m := by omega
    refine jx_newB hκ C 17 in_X17 tyX17 tyX17_ok q1196 q1197 q144 rfl (by intro j hj; rcases j with _ | _ | _ | _ | _ | j <;> first | rfl | omega) (by decide) (by first | omega | (dsimp only; omega)) (by first | omega | (dsimp only; omega)) dX0_made_70 h (fun q14 h => ?_)
    refine j_dup C dX0_made_73 rfl ?_
    refine j_aload_n C dX0_made_74 rfl rfl ?_
    refine j_aload_n C dX0_made_75 rfl rfl ?_
    refine jx_geti hκ C 47 (by decide) rfl q236 dX0_made_76 ?_
    refine jx_I hκ C (mt_n17 hκ G _ _ ((xO T q14 (rawO 17)).1 47)) q1200 q144 q1198 q1199 rfl (N := 2) ⟨by decide, by decide, by decide +kernel⟩ rfl dX0_made_79 ⟨Nat.le_of_ble_eq_true rfl, by decide, (by first | omega | (dsimp only; omega)), (by first | omega | (dsimp only; omega)), Nat.le_of_ble_eq_true rfl⟩ rfl ?_
    refine jx_nmTP h (fun T15 h => ?_)
    exact j_aret C (e := (some q14)) (Or.inl ⟨_, rfl⟩) dX0_made_82 (by first | omega | (dsimp only; omega)) (by first | omega | (dsimp only; omega)) ⟨_, _, h, rfl, rfl⟩
  replace h := imP c1_2 h
  by_cases c1_3 : p1 = 4
  · replace h := ipP c1_3 h
    refine j_tabEq C dX0_made_1 c1_3 (a := 4) rfl (by decide) (by decide) rfl (tgt := 83) (by decide) ?_
    obtain ⟨m16, e17, h⟩ := h
    have hb18 : 0 + 1 + m16 ≤ m := by omega
    refine jx_newB hκ C 18 in_X18 tyX18 tyX18_ok q1209 q1210 q145 rfl (by intro j hj; rcases j with _ | _ | _ | _ | _ | j <;> first | rfl | omega) (by decide) (by first | omega | (dsimp only; omega)) (by first | omega | (dsimp only; omega)) dX0_made_83 h (fun q19 h => ?_)
    refine j_dup C dX0_made_86 rfl ?_
    refine j_aload_n C dX0_made_87 rfl rfl ?_
    refine j_aload_n C dX0_made_88 rfl rfl ?_
    refine jx_geti hκ C 47 (by decide) rfl q236 dX0_made_89 ?_
    refine jx_I hκ C (mt_n18 hκ G _ _ ((xO T q19 (rawO 18)).1 47)) q1213 q145 q1211 q1212 rfl (N := 2) ⟨by decide, by decide, by decide +kernel⟩ rfl dX0_made_92 ⟨Nat.le_of_ble_eq_true rfl, by decide, (by first | omega | (dsimp only; omega)), (by first | omega | (dsimp only; omega)), Nat.le_of_ble_eq_true rfl⟩ rfl ?_
    refine jx_nmTP h (fun T20 h => ?_)
    exact j_aret C (e := (some q19)) (Or.inl ⟨_, rfl⟩) dX0_made_95 (by first | omega | (dsimp only; omega)) (by first | omega | (dsimp only; omega)) ⟨_, _, h, rfl, rfl⟩
  replace h := imP c1_3 h
  by_cases c1_4 : p1 = 5
  · replace h := ipP c1_4 h
    refine j_tabEq C dX0_made_1 c1_4 (a := 5) rfl (by decide) (by decide) rfl (tgt := 96) (by decide) ?_
    obtain ⟨m21, e22, h⟩ := h
    have hb23 : 0 + 1 + m21 ≤ m := by omega
    refine jx_newB hκ C 19 in_X19 tyX19 tyX19_ok q1222 q1223 q146 rfl (by intro j hj; rcases j with _ | _ | _ | _ | _ | j <;> first | rfl | omega) (by decide) (by first | omega | (dsimp only; omega)) (by first | omega | (dsimp only; omega)) dX0_made_96 h (fun q24 h => ?_)
    refine j_dup C dX0_made_99 rfl ?_
    refine j_aload_n C dX0_made_100 rfl rfl ?_
    refine j_aload_n C dX0_made_101 rfl rfl ?_
    refine jx_geti hκ C 47 (by decide) rfl q236 dX0_made_102 ?_
    refine jx_I hκ C (mt_n19 hκ G _ _ ((xO T q24 (rawO 19)).1 47)) q1226 q146 q1224 q1225 rfl (N := 2) ⟨by decide, by decide, by decide +kernel⟩ rfl dX0_made_105 ⟨Nat.le_of_ble_eq_true rfl, by decide, (by first | omega | (dsimp only; omega)), (by first | omega | (dsimp only; omega)), Nat.le_of_ble_eq_true rfl⟩ rfl ?_
    refine jx_nmTP h (fun T25 h => ?_)
    exact j_aret C (e := (some q24)) (Or.inl ⟨_, rfl⟩) dX0_made_108 (by first | omega | (dsimp only; omega)) (by first | omega | (dsimp only; omega)) ⟨_, _, h, rfl, rfl⟩
  replace h := imP c1_4 h
  by_cases c1_5 : p1 = 6
  · replace h := ipP c1_5 h
    refine j_tabEq C dX0_made_1 c1_5 (a := 6) rfl (by decide) (by decide) rfl (tgt := 109) (by decide) ?_
    obtain ⟨m26, e27, h⟩ := h
    have hb28 : 0 + 1 + m26 ≤ m := by omega
    refine jx_newB hκ C 20 in_X20 tyX20 tyX20_ok q1236 q1237 q147 rfl (by intro j hj; rcases j with _ | _ | _ | _ | _ | j <;> first | rfl | omega) (by decide) (by first | omega | (dsimp only; omega)) (by first | omega | (dsimp only; omega)) dX0_made_109 h (fun q29 h => ?_)
    refine j_dup C dX0_made_112 rfl ?_
    refine j_aload_n C dX0_made_113 rfl rfl ?_
    refine j_aload_n C dX0_made_114 rfl rfl ?_
    refine jx_geti hκ C 47 (by decide) rfl q236 dX0_made_115 ?_
    refine jx_I hκ C (mt_n20 hκ G _ _ ((xO T q29 (rawO 20)).1 47)) q1240 q147 q1238 q1239 rfl (N := 2) ⟨by decide, by decide, by decide +kernel⟩ rfl dX0_made_118 ⟨Nat.le_of_ble_eq_true rfl, by decide, (by first | omega | (dsimp only; omega)), (by first | omega | (dsimp only; omega)), Nat.le_of_ble_eq_true rfl⟩ rfl ?_
    refine jx_nmTP h (fun T30 h => ?_)
    exact j_aret C (e := (some q29)) (Or.inl ⟨_, rfl⟩) dX0_made_121 (by first | omega | (dsimp only; omega)) (by first | omega | (dsimp only; omega)) ⟨_, _, h, rfl, rfl⟩
  replace h := imP c1_5 h
  by_cases c1_6 : p1 = 7
  · replace h := ipP c1_6 h
    refine j_tabEq C dX0_made_1 c1_6 (a := 7) rfl (by decide) (by decide) rfl (tgt := 122) (by decide) ?_
    obtain ⟨m31, e32, h⟩ := h
    have hb33 : 0 + 1 + m31 ≤ m := by omega
    refine jx_newB hκ C 21 in_X21 tyX21 tyX21_ok q1248 q1249 q148 rfl (by intro j hj; rcases j with _ | _ | _ | _ | _ | j <;> first | rfl | omega) (by decide) (by first | omega | (dsimp only; omega)) (by first | omega | (dsimp only; omega)) dX0_made_122 h (fun q34 h => ?_)
    refine j_dup C dX0_made_125 rfl ?_
    refine j_aload_n C dX0_made_126 rfl rfl ?_
    refine j_aload_n C dX0_made_127 rfl rfl ?_
    refine jx_geti hκ C 47 (by decide) rfl q236 dX0_made_128 ?_
    refine jx_I hκ C (mt_n21 hκ G _ _ ((xO T q34 (rawO 21)).1 47)) q1252 q148 q1250 q1251 rfl (N := 2) ⟨by decide, by decide, by decide +kernel⟩ rfl dX0_made_131 ⟨Nat.le_of_ble_eq_true rfl, by decide, (by first | omega | (dsimp only; omega)), (by first | omega | (dsimp only; omega)), Nat.le_of_ble_eq_true rfl⟩ rfl ?_
    refine jx_nmTP h (fun T35 h => ?_)
    exact j_aret C (e := (some q34)) (Or.inl ⟨_, rfl⟩) dX0_made_134 (by first | omega | (dsimp only; omega)) (by first | omega | (dsimp only; omega)) ⟨_, _, h, rfl, rfl⟩
  replace h := imP c1_6 h
  refine j_tabDef C [1, 2, 3, 4, 5, 6, 7] dX0_made_1 ⟨tab_ne c1_0 rfl, tab_ne c1_1 rfl, tab_ne c1_2 rfl, tab_ne c1_3 rfl, tab_ne c1_4 rfl, tab_ne c1_5 rfl, tab_ne c1_6 rfl, trivial⟩ rfl rfl (tgt := 135) (by decide) ?_
  obtain ⟨m36, e37, h⟩ := h
  have hb38 : 0 + 1 + m36 ≤ m := by omega
  refine jx_newB hκ C 14 in_X14 tyX14 tyX14_ok q183 q1262 q141 rfl (by intro j hj; rcases j with _ | _ | _ | _ | _ | j <;> first | rfl | omega) (by decide) (by first | omega | (dsimp only; omega)) (by first | omega | (dsimp only; omega)) dX0_made_135 h (fun q39 h => ?_)
  refine j_dup C dX0_made_138 rfl ?_
  refine j_aload_n C dX0_made_139 rfl rfl ?_
  refine j_aload_n C dX0_made_140 rfl rfl ?_
  refine jx_geti hκ C 47 (by decide) rfl q236 dX0_made_141 ?_
  refine jx_I hκ C (mt_n14 hκ G _ _ ((xO T q39 (rawO 14)).1 47)) q1169 q141 q1263 q1168 rfl (N := 2) ⟨by decide, by decide, by decide +kernel⟩ rfl dX0_made_144 ⟨Nat.le_of_ble_eq_true rfl, by decide, (by first | omega | (dsimp only; omega)), (by first | omega | (dsimp only; omega)), Nat.le_of_ble_eq_true rfl⟩ rfl ?_
  refine jx_nmTP h (fun T40 h => ?_)
  exact j_aret C (e := (some q39)) (Or.inl ⟨_, rfl⟩) dX0_made_147 (by first | omega | (dsimp only; omega)) (by first | omega | (dsimp only; omega)) ⟨_, _, h, rfl, rfl⟩
/-! body -/
def x_body (Q : Int32 → XS → Prop) (m : Nat) (T : XS) (p1 : Int32) : Prop :=
  bindP (x_in p1 0 7) fun v2 =>
  (if (b2i v2) = 0 then
  Q (-1) T
  else
  (if (T.1 47) = 50 then
  Q (-3) T
  else
  splP m fun m3 m4 =>
  x_made (fun v7 T8 =>
  bindP (v7) fun a9 =>
  bindP (T8.2.2.2 a9) fun q11 =>
  (if q11.1 = 14 then
  chkP 50 (T.1 47) (
  bindP (getO T8 a9 14) fun q16 =>
  nmP (xR T8 46 (T.1 47).toNatClampNeg (some a9)) fun T14 =>
  nmP (xI T14 47 ((T14.1 47) + 1)) fun T17 =>
  Q ((T17.1 47) - 1) T17)
  else if q11.1 = 15 then
  chkP 50 (T.1 47) (
  bindP (getO T8 a9 15) fun q22 =>
  nmP (xR T8 46 (T.1 47).toNatClampNeg (some a9)) fun T20 =>
  nmP (xI T20 47 ((T20.1 47) + 1)) fun T23 =>
  Q ((T23.1 47) - 1) T23)
  else if q11.1 = 16 then
  chkP 50 (T.1 47) (
  bindP (getO T8 a9 16) fun q28 =>
  nmP (xR T8 46 (T.1 47).toNatClampNeg (some a9)) fun T26 =>
  nmP (xI T26 47 ((T26.1 47) + 1)) fun T29 =>
  Q ((T29.1 47) - 1) T29)
  else if q11.1 = 17 then
  chkP 50 (T.1 47) (
  bindP (getO T8 a9 17) fun q34 =>
  nmP (xR T8 46 (T.1 47).toNatClampNeg (some a9)) fun T32 =>
  nmP (xI T32 47 ((T32.1 47) + 1)) fun T35 =>
  Q ((T35.1 47) - 1) T35)
  else if q11.1 = 18 then
  chkP 50 (T.1 47) (
  bindP (getO T8 a9 18) fun q40 =>
  nmP (xR T8 46 (T.1 47).toNatClampNeg (some a9)) fun T38 =>
  nmP (xI T38 47 ((T38.1 47) + 1)) fun T41 =>
  Q ((T41.1 47) - 1) T41)
  else if q11.1 = 19 then
  chkP 50 (T.1 47) (
  bindP (getO T8 a9 19) fun q46 =>
  nmP (xR T8 46 (T.1 47).toNatClampNeg (some a9)) fun T44 =>
  nmP (xI T44 47 ((T44.1 47) + 1)) fun T47 =>
  Q ((T47.1 47) - 1) T47)
  else if q11.1 = 20 then
  chkP 50 (T.1 47) (
  bindP (getO T8 a9 20) fun q52 =>
  nmP (xR T8 46 (T.1 47).toNatClampNeg (some a9)) fun T50 =>
  nmP (xI T50 47 ((T50.1 47) + 1)) fun T53 =>
  Q ((T53.1 47) - 1) T53)
  else if q11.1 = 21 then
  chkP 50 (T.1 47) (
  bindP (getO T8 a9 21) fun q58 =>
  nmP (xR T8 46 (T.1 47).toNatClampNeg (some a9)) fun T56 =>
  nmP (xI T56 47 ((T56.1 47) + 1)) fun T59 =>
  Q ((T59.1 47) - 1) T59)
  else False)) m3 T p1))
theorem mt_x_body {κ : jK} (hκ : jX κ) (G : Nat → Nat) {m : Nat} {T : XS} {p1 : Int32} {Q : Int32 → XS → Prop} (h : x_body Q m T p1) : jM κ yX0_body (ws_ yX0_body cX0_body 2 (some .int)) 7 m (64 * m) [.ref (G 0), .int p1] (wX κ G T) (fun u w' => ∃ v T', Q v T' ∧ u = some (.int v) ∧ w' = wX κ G T') := by
  rw [x_body] at h
  refine jM.of (by decide) rfl (Nat.le_of_ble_eq_true rfl) fun Γ C _ => ?_
  show J κ Γ (7, m, 64 * m, (fun u w' => ∃ v T', Q v T' ∧ u = some (.int v) ∧ w' = wX κ G T')) 2 (wX κ G T) 0 (64 * 0) 0 [some (.ref (G 0)), some (.int p1)] []
  have hb : 0 + m ≤ m := by omega
  refine j_iload_n C dX0_body_0 rfl rfl ?_
  refine j_iconst C (v := 0) dX0_body_1 rfl ?_
  refine j_bipush C (v := 7) dX0_body_2 rfl ?_
  obtain ⟨v2, e1, h⟩ := obP h
  refine j_Si hκ.1.1 C (mt_x_in hκ e1) hG_x_in hy_x_in rfl dX0_body_4 (jfit.of (Nat.le_of_ble_eq_true rfl) (by decide) (by first | omega | (dsimp only; omega)) (by first | omega | (dsimp only; omega)) (Nat.le_of_ble_eq_true rfl)) rfl ?_
  refine j_if_ne C dX0_body_7 (tgt := 12) (by decide) (fun c => ?_) (fun c => ?_)
  · replace h := imP c h
    refine j_aload_n C dX0_body_12 rfl rfl ?_
    refine jx_geti hκ C 47 (by decide) rfl q236 dX0_body_13 ?_
    refine j_bipush C (v := 50) dX0_body_16 rfl ?_
    refine j_icmp_ne C dX0_body_18 (tgt := 24) (by decide) (fun c => ?_) (fun c => ?_)
    · replace h := imP c h
      refine j_aload_n C dX0_body_24 rfl rfl ?_
      refine jx_geta hκ C 46 (by decide) rfl rfl q235 dX0_body_25 ?_
      refine j_aload_n C dX0_body_28 rfl rfl ?_
      refine jx_geti hκ C 47 (by decide) rfl q236 dX0_body_29 ?_
      refine j_aload_n C dX0_body_32 rfl rfl ?_
      refine j_iload_n C dX0_body_33 rfl rfl ?_
      obtain ⟨m3, m4, e5, h⟩ := h
      have hb6 : 0 + m3 + m4 ≤ m := by omega
      refine jx_VQB hκ C (mt_x_made hκ G h) hG_x_made hy_x_made rfl rfl dX0_body_34 ⟨(Nat.le_of_ble_eq_true rfl), by decide, (by first | omega | (dsimp only; omega)), (by first | omega | (dsimp only; omega)), (Nat.le_of_ble_eq_true rfl)⟩ rfl (fun v7 T8 h => ?_)
      obtain ⟨a9, w10, h9⟩ := obP h
      subst w10
      replace h := h9
      obtain ⟨q11, g12, h⟩ := obP h
      by_cases c18 : q11.1 = 14
      · replace h := ipP c18 h
        obtain ⟨b13, h⟩ := chkP_some h
        obtain ⟨q16, g15, h⟩ := obP h
        refine jx_aast hκ C 46 rfl (E := _) rfl b13 g15 (by decide) rfl rfl dX0_body_37 ?_
        refine jx_nmTP h (fun T14 h => ?_)
        refine j_aload_n C dX0_body_38 rfl rfl ?_
        refine j_dup C dX0_body_39 rfl ?_
        refine jx_geti hκ C 47 (by decide) rfl q236 dX0_body_40 ?_
        refine j_iconst C (v := 1) dX0_body_43 rfl ?_
        refine j_iadd C dX0_body_44 ?_
        refine jx_puti hκ C 47 (by decide) rfl rfl rfl q236 dX0_body_45 ?_
        refine jx_nmTP h (fun T17 h => ?_)
        refine j_aload_n C dX0_body_48 rfl rfl ?_
        refine jx_geti hκ C 47 (by decide) rfl q236 dX0_body_49 ?_
        refine j_iconst C (v := 1) dX0_body_52 rfl ?_
        refine j_isub C dX0_body_53 ?_
        exact j_iret C dX0_body_54 (by first | omega | (dsimp only; omega)) (by first | omega | (dsimp only; omega)) ⟨_, _, h, rfl, rfl⟩
      replace h := imP c18 h
      by_cases c24 : q11.1 = 15
      · replace h := ipP c24 h
        obtain ⟨b19, h⟩ := chkP_some h
        obtain ⟨q22, g21, h⟩ := obP h
        refine jx_aastO hκ C 46 rfl rfl b19 g21 (by decide) rfl q2259 dX0_body_37 ?_
        refine jx_nmTP h (fun T20 h => ?_)
        refine j_aload_n C dX0_body_38 rfl rfl ?_
        refine j_dup C dX0_body_39 rfl ?_
        refine jx_geti hκ C 47 (by decide) rfl q236 dX0_body_40 ?_
        refine j_iconst C (v := 1) dX0_body_43 rfl ?_
        refine j_iadd C dX0_body_44 ?_
        refine jx_puti hκ C 47 (by decide) rfl rfl rfl q236 dX0_body_45 ?_
        refine jx_nmTP h (fun T23 h => ?_)
        refine j_aload_n C dX0_body_48 rfl rfl ?_
        refine jx_geti hκ C 47 (by decide) rfl q236 dX0_body_49 ?_
        refine j_iconst C (v := 1) dX0_body_52 rfl ?_
        refine j_isub C dX0_body_53 ?_
        exact j_iret C dX0_body_54 (by first | omega | (dsimp only; omega)) (by first | omega | (dsimp only; omega)) ⟨_, _, h, rfl, rfl⟩
      replace h := imP c24 h
      by_cases c30 : q11.1 = 16
      · replace h := ipP c30 h
        obtain ⟨b25, h⟩ := chkP_some h
        obtain ⟨q28, g27, h⟩ := obP h
        refine jx_aastO hκ C 46 rfl rfl b25 g27 (by decide) rfl q2262 dX0_body_37 ?_
        refine jx_nmTP h (fun T26 h => ?_)
        refine j_aload_n C dX0_body_38 rfl rfl ?_
        refine j_dup C dX0_body_39 rfl ?_
        refine jx_geti hκ C 47 (by decide) rfl q236 dX0_body_40 ?_
        refine j_iconst C (v := 1) dX0_body_43 rfl ?_
        refine j_iadd C dX0_body_44 ?_
        refine jx_puti hκ C 47 (by decide) rfl rfl rfl q236 dX0_body_45 ?_
        refine jx_nmTP h (fun T29 h => ?_)
        refine j_aload_n C dX0_body_48 rfl rfl ?_
        refine jx_geti hκ C 47 (by decide) rfl q236 dX0_body_49 ?_
        refine j_iconst C (v := 1) dX0_body_52 rfl ?_
        refine j_isub C dX0_body_53 ?_
        exact j_iret C dX0_body_54 (by first | omega | (dsimp only; omega)) (by first | omega | (dsimp only; omega)) ⟨_, _, h, rfl, rfl⟩
      replace h := imP c30 h
      by_cases c36 : q11.1 = 17
      · replace h := ipP c36 h
        obtain ⟨b31, h⟩ := chkP_some h
        obtain ⟨q34, g33, h⟩ := obP h
        refine jx_aastO hκ C 46 rfl rfl b31 g33 (by decide) rfl q2261 dX0_body_37 ?_
        refine jx_nmTP h (fun T32 h => ?_)
        refine j_aload_n C dX0_body_38 rfl rfl ?_
        refine j_dup C dX0_body_39 rfl ?_
        refine jx_geti hκ C 47 (by decide) rfl q236 dX0_body_40 ?_
        refine j_iconst C (v := 1) dX0_body_43 rfl ?_
        refine j_iadd C dX0_body_44 ?_
        refine jx_puti hκ C 47 (by decide) rfl rfl rfl q236 dX0_body_45 ?_
        refine jx_nmTP h (fun T35 h => ?_)
        refine j_aload_n C dX0_body_48 rfl rfl ?_
        refine jx_geti hκ C 47 (by decide) rfl q236 dX0_body_49 ?_
        refine j_iconst C (v := 1) dX0_body_52 rfl ?_
        refine j_isub C dX0_body_53 ?_
        exact j_iret C dX0_body_54 (by first | omega | (dsimp only; omega)) (by first | omega | (dsimp only; omega)) ⟨_, _, h, rfl, rfl⟩
      replace h := imP c36 h
      by_cases c42 : q11.1 = 18
      · replace h := ipP c42 h
        obtain ⟨b37, h⟩ := chkP_some h
        obtain ⟨q40, g39, h⟩ := obP h
        refine jx_aastO hκ C 46 rfl rfl b37 g39 (by decide) rfl q2263 dX0_body_37 ?_
        refine jx_nmTP h (fun T38 h => ?_)
        refine j_aload_n C dX0_body_38 rfl rfl ?_
        refine j_dup C dX0_body_39 rfl ?_
        refine jx_geti hκ C 47 (by decide) rfl q236 dX0_body_40 ?_
        refine j_iconst C (v := 1) dX0_body_43 rfl ?_
        refine j_iadd C dX0_body_44 ?_
        refine jx_puti hκ C 47 (by decide) rfl rfl rfl q236 dX0_body_45 ?_
        refine jx_nmTP h (fun T41 h => ?_)
        refine j_aload_n C dX0_body_48 rfl rfl ?_
        refine jx_geti hκ C 47 (by decide) rfl q236 dX0_body_49 ?_
        refine j_iconst C (v := 1) dX0_body_52 rfl ?_
        refine j_isub C dX0_body_53 ?_
        exact j_iret C dX0_body_54 (by first | omega | (dsimp only; omega)) (by first | omega | (dsimp only; omega)) ⟨_, _, h, rfl, rfl⟩
      replace h := imP c42 h
      by_cases c48 : q11.1 = 19
      · replace h := ipP c48 h
        obtain ⟨b43, h⟩ := chkP_some h
        obtain ⟨q46, g45, h⟩ := obP h
        refine jx_aastO hκ C 46 rfl rfl b43 g45 (by decide) rfl q2265 dX0_body_37 ?_
        refine jx_nmTP h (fun T44 h => ?_)
        refine j_aload_n C dX0_body_38 rfl rfl ?_
        refine j_dup C dX0_body_39 rfl ?_
        refine jx_geti hκ C 47 (by decide) rfl q236 dX0_body_40 ?_
        refine j_iconst C (v := 1) dX0_body_43 rfl ?_
        refine j_iadd C dX0_body_44 ?_
        refine jx_puti hκ C 47 (by decide) rfl rfl rfl q236 dX0_body_45 ?_
        refine jx_nmTP h (fun T47 h => ?_)
        refine j_aload_n C dX0_body_48 rfl rfl ?_
        refine jx_geti hκ C 47 (by decide) rfl q236 dX0_body_49 ?_
        refine j_iconst C (v := 1) dX0_body_52 rfl ?_
        refine j_isub C dX0_body_53 ?_
        exact j_iret C dX0_body_54 (by first | omega | (dsimp only; omega)) (by first | omega | (dsimp only; omega)) ⟨_, _, h, rfl, rfl⟩
      replace h := imP c48 h
      by_cases c54 : q11.1 = 20
      · replace h := ipP c54 h
        obtain ⟨b49, h⟩ := chkP_some h
        obtain ⟨q52, g51, h⟩ := obP h
        refine jx_aastO hκ C 46 rfl rfl b49 g51 (by decide) rfl q2260 dX0_body_37 ?_
        refine jx_nmTP h (fun T50 h => ?_)
        refine j_aload_n C dX0_body_38 rfl rfl ?_
        refine j_dup C dX0_body_39 rfl ?_
        refine jx_geti hκ C 47 (by decide) rfl q236 dX0_body_40 ?_
        refine j_iconst C (v := 1) dX0_body_43 rfl ?_
        refine j_iadd C dX0_body_44 ?_
        refine jx_puti hκ C 47 (by decide) rfl rfl rfl q236 dX0_body_45 ?_
        refine jx_nmTP h (fun T53 h => ?_)
        refine j_aload_n C dX0_body_48 rfl rfl ?_
        refine jx_geti hκ C 47 (by decide) rfl q236 dX0_body_49 ?_
        refine j_iconst C (v := 1) dX0_body_52 rfl ?_
        refine j_isub C dX0_body_53 ?_
        exact j_iret C dX0_body_54 (by first | omega | (dsimp only; omega)) (by first | omega | (dsimp only; omega)) ⟨_, _, h, rfl, rfl⟩
      replace h := imP c54 h
      by_cases c60 : q11.1 = 21
      · replace h := ipP c60 h
        obtain ⟨b55, h⟩ := chkP_some h
        obtain ⟨q58, g57, h⟩ := obP h
        refine jx_aastO hκ C 46 rfl rfl b55 g57 (by decide) rfl q2264 dX0_body_37 ?_
        refine jx_nmTP h (fun T56 h => ?_)
        refine j_aload_n C dX0_body_38 rfl rfl ?_
        refine j_dup C dX0_body_39 rfl ?_
        refine jx_geti hκ C 47 (by decide) rfl q236 dX0_body_40 ?_
        refine j_iconst C (v := 1) dX0_body_43 rfl ?_
        refine j_iadd C dX0_body_44 ?_
        refine jx_puti hκ C 47 (by decide) rfl rfl rfl q236 dX0_body_45 ?_
        refine jx_nmTP h (fun T59 h => ?_)
        refine j_aload_n C dX0_body_48 rfl rfl ?_
        refine jx_geti hκ C 47 (by decide) rfl q236 dX0_body_49 ?_
        refine j_iconst C (v := 1) dX0_body_52 rfl ?_
        refine j_isub C dX0_body_53 ?_
        exact j_iret C dX0_body_54 (by first | omega | (dsimp only; omega)) (by first | omega | (dsimp only; omega)) ⟨_, _, h, rfl, rfl⟩
      replace h := imP c60 h
      cases h
    replace h := ipP c h
    refine j_bipush C (v := (-3)) dX0_body_21 rfl ?_
    exact j_iret C dX0_body_23 (by first | omega | (dsimp only; omega)) (by first | omega | (dsimp only; omega)) ⟨_, _, h, rfl, rfl⟩
  replace h := ipP c h
  refine j_iconst C (v := (-1)) dX0_body_10 rfl ?_
  exact j_iret C dX0_body_11 (by first | omega | (dsimp only; omega)) (by first | omega | (dsimp only; omega)) ⟨_, _, h, rfl, rfl⟩
