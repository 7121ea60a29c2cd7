/-! Reader.isOne: whether the char here is one of a literal's. Own text, printed by io.part.py. -/
set_option maxRecDepth 100000
def r_isOne (N : Nat) (f : Nat → Int32) (T : XS) (a0 : Nat) : Option Bool := (getO T a0 5).bind fun _ => (r_here T a0).bind fun c => if c < 0 then some false else (s_find N f c).bind fun p => if p < 0 then some false else some true
theorem mt_r_isOne {κ : jK} (hκ : jX κ) (G : Nat → Nat) {T : XS} {a0 : Nat} {rs rv s av N : Nat} {f : Nat → Int32} (hl : jLit κ rs rv s av N f) (hp : (0 : Int32) < Int32.ofNat N) {v : Bool} (h : r_isOne N f T a0 = some v) : jM κ yX5_isOne (ws_ yX5_isOne cX5_isOne 2 (some .boolean)) 4 0 0 [.ref a0, .ref s] (wX κ G T) (fun u w' => u = some (.int (b2i v)) ∧ w' = wX κ G T) := by
  rw [r_isOne] at h
  obtain ⟨x, hx, h⟩ := ob h
  obtain ⟨c, e, h⟩ := ob h
  refine jM.of (by decide) rfl (Nat.le_of_ble_eq_true rfl) fun Γ C _ => ?_
  show J κ Γ (4, 0, 0, (fun u w' => u = some (.int (b2i v)) ∧ w' = wX κ G T)) 2 (wX κ G T) 0 0 0 [some (.ref a0), some (.ref s)] []
  refine j_aload_n C dX5_isOne_0 rfl rfl ?_
  refine jx_Oi hκ C (mt_r_here hκ G e) hG_r_here hy_r_here rfl hx (by decide) rfl rfl dX5_isOne_1 ⟨Nat.le_of_ble_eq_true rfl, by decide, Nat.le_of_ble_eq_true rfl, Nat.le_of_ble_eq_true rfl, Nat.le_of_ble_eq_true rfl⟩ rfl ?_
  refine j_if_lt C dX5_isOne_4 (tgt := 22) (by decide) (fun c1 => ?_) (fun c1 => ?_)
  · replace h := ip c1 h
    refine j_iconst C (v := 0) dX5_isOne_22 rfl ?_
    obtain rfl := sp1 h
    exact j_zret C rfl dX5_isOne_23 (Nat.zero_le _) (Nat.zero_le _) ⟨rfl, rfl⟩
  replace h := im c1 h
  obtain ⟨p, e2, h⟩ := ob h
  refine j_aload_n C dX5_isOne_7 rfl rfl ?_
  refine j_aload_n C dX5_isOne_8 rfl rfl ?_
  refine jx_Oi hκ C (mt_r_here hκ G e) hG_r_here hy_r_here rfl hx (by decide) rfl rfl dX5_isOne_9 ⟨Nat.le_of_ble_eq_true rfl, by decide, Nat.le_of_ble_eq_true rfl, Nat.le_of_ble_eq_true rfl, Nat.le_of_ble_eq_true rfl⟩ rfl ?_
  refine j_callVC hκ.1.1 C (mt_s_indexOf hκ hl hp _ e2) (lw_V q666 q667 q668 q121 q669) (N := 1) ⟨by decide, by decide, by decide +kernel⟩ rfl hl.1 (hκ.cl rfl) rfl dX5_isOne_12 ⟨Nat.le_of_ble_eq_true rfl, by decide, Nat.le_of_ble_eq_true rfl, Nat.le_of_ble_eq_true rfl, Nat.le_of_ble_eq_true rfl⟩ rfl ?_
  refine j_if_lt C dX5_isOne_15 (tgt := 22) (by decide) (fun c2 => ?_) (fun c2 => ?_)
  · replace h := ip c2 h
    refine j_iconst C (v := 0) dX5_isOne_22 rfl ?_
    obtain rfl := sp1 h
    exact j_zret C rfl dX5_isOne_23 (Nat.zero_le _) (Nat.zero_le _) ⟨rfl, rfl⟩
  replace h := im c2 h
  refine j_iconst C (v := 1) dX5_isOne_18 rfl ?_
  refine j_goto C dX5_isOne_19 (tgt := 23) (by decide) ?_
  obtain rfl := sp1 h
  exact j_zret C rfl dX5_isOne_23 (Nat.zero_le _) (Nat.zero_le _) ⟨rfl, rfl⟩
