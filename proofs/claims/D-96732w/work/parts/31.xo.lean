set_option maxRecDepth 100000
theorem hG_p_fromPost_x : GoodIn lw_all (wsV "NineKeysRound" 96 yX3_fromPost.cls yX3_fromPost (ws_ yX3_fromPost cX3_fromPost 2 (some .int))) := lw_V q851 q852 q853 q116 q854
theorem hy_p_fromPost : yX3_fromPost.cls ≠ "java/lang/invoke/MethodHandle" ∧ yX3_fromPost.cls ≠ "java/lang/invoke/VarHandle" ∧ (parseMethodDescriptor yX3_fromPost.desc).map (fun d => d.parameters.length) = some 1 := ⟨by decide, by decide, by decide +kernel⟩
theorem hG_p_farFrom_x : GoodIn lw_all (wsV "NineKeysRound" 106 yX3_farFrom.cls yX3_farFrom (ws_ yX3_farFrom cX3_farFrom 3 (some .int))) := lw_V q878 q856 q857 q116 q858
theorem hy_p_farFrom : yX3_farFrom.cls ≠ "java/lang/invoke/MethodHandle" ∧ yX3_farFrom.cls ≠ "java/lang/invoke/VarHandle" ∧ (parseMethodDescriptor yX3_farFrom.desc).map (fun d => d.parameters.length) = some 2 := ⟨by decide, by decide, by decide +kernel⟩
theorem hG_p_farFrom : GoodIn lw_all (wsV "NineKeysRound$Post" 28 yX3_farFrom.cls yX3_farFrom (ws_ yX3_farFrom cX3_farFrom 3 (some .int))) := lw_V q855 q856 q857 q116 q858
theorem hG_f_clear_x : GoodIn lw_all (wsV "NineKeysRound" 279 yX1_clear.cls yX1_clear (ws_ yX1_clear cX1_clear 2 none)) := lw_V q915 q916 q917 q114 q918
theorem hy_f_clear : yX1_clear.cls ≠ "java/lang/invoke/MethodHandle" ∧ yX1_clear.cls ≠ "java/lang/invoke/VarHandle" ∧ (parseMethodDescriptor yX1_clear.desc).map (fun d => d.parameters.length) = some 0 := ⟨by decide, by decide, by decide +kernel⟩
/-! farFrom -/
def p_farFrom (T : XS) (a0 : Nat) (p1 : Int32) (p2 : Int32) : Option Int32 :=
  (getO T a0 3).bind fun q1 =>
  (getO T a0 3).bind fun q3 =>
  some ((jabs ((q1.2.1 0) - p1)) + (jabs ((q3.2.1 1) - p2)))
theorem mt_p_farFrom {κ : jK} (hκ : jX κ) (G : Nat → Nat) {T : XS} {a0 : Nat} {p1 : Int32} {p2 : Int32} {v : Int32} (h : p_farFrom T a0 p1 p2 = some v) : jM κ yX3_farFrom (ws_ yX3_farFrom cX3_farFrom 3 (some .int)) 1 0 0 [.ref a0, .int p1, .int p2] (wX κ G T) (fun u w' => u = some (.int v) ∧ w' = wX κ G T) := by
  rw [p_farFrom] at h
  refine jM.of (by decide) rfl (Nat.le_of_ble_eq_true rfl) fun Γ C _ => ?_
  show J κ Γ (1, 0, 0, (fun u w' => u = some (.int v) ∧ w' = wX κ G T)) 3 (wX κ G T) 0 0 0 [some (.ref a0), some (.int p1), some (.int p2)] []
  refine j_aload_n C dX3_farFrom_0 rfl rfl ?_
  obtain ⟨q1, g2, h⟩ := ob h
  refine jx_gi3 hκ C g2 0 (by decide) rfl q357 dX3_farFrom_1 ?_
  refine j_iload_n C dX3_farFrom_4 rfl rfl ?_
  refine j_isub C dX3_farFrom_5 ?_
  refine j_mabs C dX3_farFrom_6 q859 q860 q129 q861 (Nat.le_of_ble_eq_true rfl) (Nat.le_of_ble_eq_true rfl) (Nat.le_of_ble_eq_true rfl) (Nat.le_of_ble_eq_true rfl) ?_
  refine j_aload_n C dX3_farFrom_9 rfl rfl ?_
  obtain ⟨q3, g4, h⟩ := ob h
  refine jx_gi3 hκ C g4 1 (by decide) rfl q359 dX3_farFrom_10 ?_
  refine j_iload_n C dX3_farFrom_13 rfl rfl ?_
  refine j_isub C dX3_farFrom_14 ?_
  refine j_mabs C dX3_farFrom_15 q859 q860 q129 q861 (Nat.le_of_ble_eq_true rfl) (Nat.le_of_ble_eq_true rfl) (Nat.le_of_ble_eq_true rfl) (Nat.le_of_ble_eq_true rfl) ?_
  refine j_iadd C dX3_farFrom_18 ?_
  obtain rfl := sp1 h
  exact j_iret C dX3_farFrom_19 (Nat.le_of_ble_eq_true rfl) (Nat.le_of_ble_eq_true rfl) ⟨rfl, rfl⟩
/-! fromPost -/
def p_fromPost (T : XS) (a0 : Nat) (p1 : Nat) : Option Int32 :=
  (getO T p1 3).bind fun q1 =>
  (getO T p1 3).bind fun q3 =>
  (getO T a0 3).bind fun q7 =>
  (p_farFrom T a0 (q1.2.1 0) (q3.2.1 1)).bind fun v6 =>
  some v6
theorem mt_p_fromPost {κ : jK} (hκ : jX κ) (G : Nat → Nat) {T : XS} {a0 : Nat} {p1 : Nat} {v : Int32} (h : p_fromPost T a0 p1 = some v) : jM κ yX3_fromPost (ws_ yX3_fromPost cX3_fromPost 2 (some .int)) 2 0 0 [.ref a0, .ref p1] (wX κ G T) (fun u w' => u = some (.int v) ∧ w' = wX κ G T) := by
  rw [p_fromPost] at h
  refine jM.of (by decide) rfl (Nat.le_of_ble_eq_true rfl) fun Γ C _ => ?_
  show J κ Γ (2, 0, 0, (fun u w' => u = some (.int v) ∧ w' = wX κ G T)) 2 (wX κ G T) 0 0 0 [some (.ref a0), some (.ref p1)] []
  refine j_aload_n C dX3_fromPost_0 rfl rfl ?_
  refine j_aload_n C dX3_fromPost_1 rfl rfl ?_
  obtain ⟨q1, g2, h⟩ := ob h
  refine jx_gi3 hκ C g2 0 (by decide) rfl q357 dX3_fromPost_2 ?_
  refine j_aload_n C dX3_fromPost_5 rfl rfl ?_
  obtain ⟨q3, g4, h⟩ := ob h
  refine jx_gi3 hκ C g4 1 (by decide) rfl q359 dX3_fromPost_6 ?_
  obtain ⟨q7, g8, h⟩ := ob h
  obtain ⟨v6, e5, h⟩ := ob h
  refine jx_Oi hκ C (mt_p_farFrom hκ G e5) hG_p_farFrom hy_p_farFrom rfl g8 (by decide) rfl rfl dX3_fromPost_9 (jfit.of (Nat.le_of_ble_eq_true rfl) (by decide) (Nat.le_of_ble_eq_true rfl) (Nat.le_of_ble_eq_true rfl) (Nat.le_of_ble_eq_true rfl)) rfl ?_
  obtain rfl := sp1 h
  exact j_iret C dX3_fromPost_12 (Nat.le_of_ble_eq_true rfl) (Nat.le_of_ble_eq_true rfl) ⟨rfl, rfl⟩
/-! clear -/
def f_clear_b2 (N : Nat) : Nat → XS → Int32 → Option XS
  | 0, _, _ => none
  | n + 1, T, l1 =>
    (if 128 ≤ l1 then
    some T
    else
    chk 128 l1 (
    nm (xA T 49 l1.toNatClampNeg 0) fun T1 =>
    nm (l1 + 1) fun x3 =>
    f_clear_b2 N n T1 x3))
theorem wf_clear_b2 {κ : jK} (hκ : jX κ) (N : Nat) {Γ : jG} (C : jC κ Γ cX1_clear 2 RX1 none) {G : Nat → Nat}  {T' : XS} : ∀ (n : Nat) (T : XS) (l1 : Int32), f_clear_b2 N n T l1 = some T' → J κ Γ (0, 0, 0, (fun u w' => u = none ∧ w' = wX κ G T')) 2 (wX κ G T) 0 0 2 [some (.ref (G 13)), some (.int l1)] [] := by
  intro n
  induction n with
  | zero => intro _ _ h; cases h
  | succ n ih =>
    intro T l1 h
    rw [f_clear_b2] at h
    refine j_iload_n C dX1_clear_2 rfl rfl ?_
    refine j_aload_n C dX1_clear_3 rfl rfl ?_
    refine jx_gnamed hκ C q175 dX1_clear_4 ?_
    refine jx_alen hκ C 49 rfl (v := 128) rfl dX1_clear_7 ?_
    refine j_icmp_ge C dX1_clear_8 (tgt := 24) (by decide) (fun c => ?_) (fun c => ?_)
    · replace h := ip c h
      obtain rfl := sp1 h
      exact j_vret C dX1_clear_24 (Nat.le_of_ble_eq_true rfl) (Nat.le_of_ble_eq_true rfl) ⟨rfl, rfl⟩
    replace h := im c h
    refine j_aload_n C dX1_clear_11 rfl rfl ?_
    refine jx_gnamed hκ C q175 dX1_clear_12 ?_
    refine j_iload_n C dX1_clear_15 rfl rfl ?_
    refine j_iconst C (v := 0) dX1_clear_16 rfl ?_
    obtain ⟨b2, h⟩ := chk_some h
    refine jx_iast hκ C 49 rfl rfl b2 dX1_clear_17 ?_
    refine jx_nmT h (fun T1 h => ?_)
    refine j_iincN C h dX1_clear_18 rfl rfl (by decide) rfl (fun x3 h => ?_)
    refine j_goto C dX1_clear_21 (tgt := 2) (by decide) ?_
    exact j_sub (ih _ _ h) ⟨rfl, ⟨rfl, trivial⟩⟩
def f_clear (N : Nat) (T : XS) : Option XS :=
  f_clear_b2 N N T 0
theorem mt_f_clear {κ : jK} (hκ : jX κ) (N : Nat) (G : Nat → Nat) {T : XS} {T' : XS} (h : f_clear N T = some T') : jM κ yX1_clear (ws_ yX1_clear cX1_clear 2 none) 0 0 0 [.ref (G 13)] (wX κ G T) (fun u w' => u = none ∧ w' = wX κ G T') := by
  rw [f_clear] at h
  refine jM.of (by decide) rfl (Nat.le_of_ble_eq_true rfl) fun Γ C _ => ?_
  show J κ Γ (0, 0, 0, (fun u w' => u = none ∧ w' = wX κ G T')) 2 (wX κ G T) 0 0 0 [some (.ref (G 13)), none] []
  refine j_iconst C (v := 0) dX1_clear_0 rfl ?_
  refine j_istore_n C dX1_clear_1 rfl (by decide) rfl ?_
  exact j_sub (wf_clear_b2 hκ N C N _ _ h) ⟨rfl, ⟨rfl, trivial⟩⟩
