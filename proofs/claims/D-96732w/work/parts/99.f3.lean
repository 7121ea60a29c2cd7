/-! shift. Printed by shift.py; own text. -/
set_option maxRecDepth 100000
def x_shift (T : XS) (p1 p2 p3 p4 p5 : Int32) : Option (Int32 × XS) :=
  (x_isShelf p1).bind fun v2 =>
  (if (b2i v2) = 0 then
  some ((-1), T)
  else
  (x_isShelf p3).bind fun v4 =>
  (if (b2i v4) = 0 then
  some ((-1), T)
  else
  chk 6 p1 (
  onl (T.2.2.1 48 p1.toNatClampNeg) (
  some ((-11), T)) fun a =>
  chk 6 p3 (
  onl (T.2.2.1 48 p3.toNatClampNeg) (
  some ((-11), T)) fun a' =>
  (T.2.2.2 a).bind fun x =>
  (if x.1 ∈ [14, 15, 16, 17, 18, 19, 20, 21] then
  some ((-12), T)
  else
  (T.2.2.2 a').bind fun x' =>
  (if x'.1 ∈ [14, 15, 16, 17, 18, 19, 20, 21] then
  (if x.1 = 23 ∨ x.1 = 24 ∨ x.1 = 25 ∨ x.1 = 26 ∨ x.1 = 27 then
  some ((-12), T)
  else none)
  else
  (if x'.1 = 23 ∨ x'.1 = 24 ∨ x'.1 = 25 ∨ x'.1 = 26 ∨ x'.1 = 27 then
  if x.1 = 23 then
  b2 (rowZ T a 23) fun b z =>
  (if x'.1 ∈ [24, 25, 26, 27] then
  some ((-12), T)
  else
  b2 (rowZ T a' 23) fun b' z' =>
  (if cpBad z.2.2.2.1 z'.2.2.2.1 p2 p4 p5 then
  (if z.2.2.2.1 < 2147483648 ∧ z'.2.2.2.1 < 2147483648 then
  some ((-13), T)
  else none)
  else
  nm (xO T b' (cpyI z z' p2.toNatClampNeg p4.toNatClampNeg p5.toNatClampNeg)) fun T' =>
  some (p5, T')))
  else if x.1 = 24 then
  b2 (rowZ T a 24) fun b z =>
  (if x'.1 ∈ [23, 25, 26, 27] then
  some ((-12), T)
  else
  b2 (rowZ T a' 24) fun b' z' =>
  (if cpBad z.2.2.2.1 z'.2.2.2.1 p2 p4 p5 then
  (if z.2.2.2.1 < 2147483648 ∧ z'.2.2.2.1 < 2147483648 then
  some ((-13), T)
  else none)
  else
  nm (xO T b' (cpyI z z' p2.toNatClampNeg p4.toNatClampNeg p5.toNatClampNeg)) fun T' =>
  some (p5, T')))
  else if x.1 = 25 then
  b2 (rowZ T a 25) fun b z =>
  (if x'.1 ∈ [23, 24, 26, 27] then
  some ((-12), T)
  else
  b2 (rowZ T a' 25) fun b' z' =>
  (if cpBad z.2.2.2.1 z'.2.2.2.1 p2 p4 p5 then
  (if z.2.2.2.1 < 2147483648 ∧ z'.2.2.2.1 < 2147483648 then
  some ((-13), T)
  else none)
  else
  nm (xO T b' (cpyI z z' p2.toNatClampNeg p4.toNatClampNeg p5.toNatClampNeg)) fun T' =>
  some (p5, T')))
  else if x.1 = 26 then
  b2 (rowZ T a 26) fun b z =>
  (if x'.1 ∈ [23, 24, 25, 27] then
  some ((-12), T)
  else
  b2 (rowZ T a' 26) fun b' z' =>
  (if cpBad z.2.2.2.1 z'.2.2.2.1 p2 p4 p5 then
  (if z.2.2.2.1 < 2147483648 ∧ z'.2.2.2.1 < 2147483648 then
  some ((-13), T)
  else none)
  else
  nm (xO T b' (cpyL z z' p2.toNatClampNeg p4.toNatClampNeg p5.toNatClampNeg)) fun T' =>
  some (p5, T')))
  else if x.1 = 27 then
  b2 (rowZ T a 27) fun b z =>
  (if x'.1 ∈ [23, 24, 25, 26] then
  some ((-12), T)
  else
  b2 (rowZ T a' 27) fun b' z' =>
  (if cpBad z.2.2.2.1 z'.2.2.2.1 p2 p4 p5 then
  (if z.2.2.2.1 < 2147483648 ∧ z'.2.2.2.1 < 2147483648 then
  some ((-13), T)
  else none)
  else
  nm (xO T b' (cpyI z z' p2.toNatClampNeg p4.toNatClampNeg p5.toNatClampNeg)) fun T' =>
  some (p5, T')))
  else none
  else none)))))))
theorem jx_castRow {κ : jK} {G : Nat → Nat} {T : XS} {Γ : jG} {σ : jS} {nL : Nat} {a b : Nat} {pc : Nat} {L : List (Option Value)} {st : List Value} {cc : ByteArray} {own : String} {ret : Option FieldType} (hκ : jX κ) (C : jC κ Γ cc nL own ret) {index q : Nat} {x : XO} (hlink : Cond.classLink own index "NineKeysRound$Row" ∈ lw_all) (hx : T.2.2.2 q = some x) (ht : x.1 = 23 ∨ x.1 = 24 ∨ x.1 = 25 ∨ x.1 = 26 ∨ x.1 = 27) (hd : decode cc pc = .ok (.checkcast index, 3))
    (h : J κ Γ σ nL (wX κ G T) a b (pc + 3) L (.ref q :: st)) : J κ Γ σ nL (wX κ G T) a b pc L (.ref q :: st) := by
  rcases ht with c | c | c | c | c
  · exact jx_castY hκ C hlink (getO_eq hx c) (by decide) rfl rfl (Or.inl q2255) hd h
  · exact jx_castY hκ C hlink (getO_eq hx c) (by decide) rfl rfl (Or.inl q2258) hd h
  · exact jx_castY hκ C hlink (getO_eq hx c) (by decide) rfl rfl (Or.inl q2256) hd h
  · exact jx_castY hκ C hlink (getO_eq hx c) (by decide) rfl rfl (Or.inl q2257) hd h
  · exact jx_castY hκ C hlink (getO_eq hx c) (by decide) rfl rfl (Or.inl q2254) hd h
theorem mt_x_shift {κ : jK} (hκ : jX κ) (G : Nat → Nat) {T : XS} {p1 p2 p3 p4 p5 : Int32} {v : Int32} {T' : XS} (h : x_shift T p1 p2 p3 p4 p5 = some (v, T')) : jM κ yX0_shift (wsW_ yX0_shift cX0_shift 7 (some .int) [((37 : Nat), (63 : Nat), (66 : Nat), (133 : Nat)), ((37 : Nat), (63 : Nat), (71 : Nat), (137 : Nat))]) 230 16 1024 [.ref (G 0), .int p1, .int p2, .int p3, .int p4, .int p5] (wX κ G T) (fun u w' => u = some (.int v) ∧ w' = wX κ G T') := by
  rw [x_shift] at h
  refine jM.ofH (by decide) rfl (Nat.le_of_ble_eq_true rfl) fun Γ C ht => ?_
  show J κ Γ (230, 16, 1024, (fun u w' => u = some (.int v) ∧ w' = wX κ G T')) 7 (wX κ G T) 0 0 0 [some (.ref (G 0)), some (.int p1), some (.int p2), some (.int p3), some (.int p4), some (.int p5), none] []
  have catC : ∀ pc, (pc = 43 ∨ pc = 53 ∨ pc = 60) → jcat "NineKeysRound" [(37, 63, 66, 133), (37, 63, 71, 137)] pc "java/lang/ClassCastException" 66 := fun pc hpc => by
    rcases hpc with rfl | rfl | rfl <;> exact jcat_mk [] (37, 63, 66, 133) [(37, 63, 71, 137)] "java/lang/ClassCastException" rfl trivial (by decide) (by decide) q381 q443 rfl
  have catI : jcat "NineKeysRound" [(37, 63, 66, 133), (37, 63, 71, 137)] 60 "java/lang/ArrayIndexOutOfBoundsException" 71 := jcat_mk [(37, 63, 66, 133)] (37, 63, 71, 137) [] "java/lang/IndexOutOfBoundsException" rfl ⟨Or.inr ⟨by decide, "java/lang/ClassCastException", q381, by decide⟩, trivial⟩ (by decide) (by decide) q490 q2253 rfl
  have endC : ∀ (k n e : Nat), v = -12 → T' = T → k ≤ 16 → n ≤ 1024 → J κ Γ (230, 16, 1024, (fun u w' => u = some (.int v) ∧ w' = wX κ G T')) 7 (wX κ G T) k n 66 [some (.ref (G 0)), some (.int p1), some (.int p2), some (.int p3), some (.int p4), some (.int p5), none] [.ref e] := fun k n e hv hT hk hn => by
    subst hv hT
    refine j_widen (k' := 16) (n' := 1024) hk hn ?_
    refine j_astore C dX0_shift_66 (by decide) rfl ?_
    refine j_bipush C (v := (-12)) dX0_shift_68 rfl ?_
    exact j_iret C dX0_shift_70 (Nat.le_of_ble_eq_true rfl) (Nat.le_of_ble_eq_true rfl) ⟨rfl, rfl⟩
  have endI : ∀ (k n e : Nat), v = -13 → T' = T → k ≤ 16 → n ≤ 1024 → J κ Γ (230, 16, 1024, (fun u w' => u = some (.int v) ∧ w' = wX κ G T')) 7 (wX κ G T) k n 71 [some (.ref (G 0)), some (.int p1), some (.int p2), some (.int p3), some (.int p4), some (.int p5), none] [.ref e] := fun k n e hv hT hk hn => by
    subst hv hT
    refine j_widen (k' := 16) (n' := 1024) hk hn ?_
    refine j_astore C dX0_shift_71 (by decide) rfl ?_
    refine j_bipush C (v := (-13)) dX0_shift_73 rfl ?_
    exact j_iret C dX0_shift_75 (Nat.le_of_ble_eq_true rfl) (Nat.le_of_ble_eq_true rfl) ⟨rfl, rfl⟩
  have endN : v = -11 → T' = T → J κ Γ (230, 16, 1024, (fun u w' => u = some (.int v) ∧ w' = wX κ G T')) 7 (wX κ G T) 0 0 34 [some (.ref (G 0)), some (.int p1), some (.int p2), some (.int p3), some (.int p4), some (.int p5), none] [] := fun hv hT => by
    subst hv hT
    refine j_bipush C (v := (-11)) dX0_shift_34 rfl ?_
    exact j_iret C dX0_shift_36 (Nat.le_of_ble_eq_true rfl) (Nat.le_of_ble_eq_true rfl) ⟨rfl, rfl⟩
  have endB : v = -1 → T' = T → J κ Γ (230, 16, 1024, (fun u w' => u = some (.int v) ∧ w' = wX κ G T')) 7 (wX κ G T) 0 0 14 [some (.ref (G 0)), some (.int p1), some (.int p2), some (.int p3), some (.int p4), some (.int p5), none] [] := fun hv hT => by
    subst hv hT
    refine j_iconst C (v := (-1)) dX0_shift_14 rfl ?_
    exact j_iret C dX0_shift_15 (Nat.le_of_ble_eq_true rfl) (Nat.le_of_ble_eq_true rfl) ⟨rfl, rfl⟩
  refine j_iload_n C dX0_shift_0 rfl rfl ?_
  obtain ⟨v2, e1, h⟩ := ob h
  refine j_Si hκ.1.1 C (mt_x_isShelf hκ e1) hG_x_isShelf hy_x_isShelf rfl dX0_shift_1 (jfit.of (Nat.le_of_ble_eq_true rfl) (by decide) (Nat.le_of_ble_eq_true rfl) (Nat.le_of_ble_eq_true rfl) (Nat.le_of_ble_eq_true rfl)) rfl ?_
  refine j_if_eq C dX0_shift_4 (tgt := 14) (by decide) (fun c => ?_) (fun c => ?_)
  · replace h := ip c h
    obtain ⟨h8, h9⟩ := sp2 h
    exact endB h8 h9
  replace h := im c h
  refine j_iload_n C dX0_shift_7 rfl rfl ?_
  obtain ⟨v4, e3, h⟩ := ob h
  refine j_Si hκ.1.1 C (mt_x_isShelf hκ e3) hG_x_isShelf hy_x_isShelf rfl dX0_shift_8 (jfit.of (Nat.le_of_ble_eq_true rfl) (by decide) (Nat.le_of_ble_eq_true rfl) (Nat.le_of_ble_eq_true rfl) (Nat.le_of_ble_eq_true rfl)) rfl ?_
  refine j_if_ne C dX0_shift_11 (tgt := 16) (by decide) (fun c2 => ?_) (fun c2 => by
    replace h := ip c2 h
    obtain ⟨h8, h9⟩ := sp2 h
    exact endB h8 h9)
  replace h := im c2 h
  obtain ⟨b3, h⟩ := chk_some h
  refine j_aload_n C dX0_shift_16 rfl rfl ?_
  refine jx_geta hκ C 48 (by decide) rfl rfl q237 dX0_shift_17 ?_
  refine j_iload_n C dX0_shift_20 rfl rfl ?_
  refine jx_aald hκ C 48 rfl rfl b3 dX0_shift_21 ?_
  rcases onl_some h with ⟨w7, h⟩ | ⟨a, w7, h⟩
  · refine j_ifnull C dX0_shift_22 (tgt := 34) (by decide) (fun _ => ?_) (fun z => absurd w7 z)
    obtain ⟨h8, h9⟩ := sp2 h
    exact endN h8 h9
  refine j_ifnull C dX0_shift_22 (tgt := 34) (by decide) (fun z => by rw [w7] at z; cases z) (fun _ => ?_)
  obtain ⟨b4, h⟩ := chk_some h
  refine j_aload_n C dX0_shift_25 rfl rfl ?_
  refine jx_geta hκ C 48 (by decide) rfl rfl q237 dX0_shift_26 ?_
  refine j_iload_n C dX0_shift_29 rfl rfl ?_
  refine jx_aald hκ C 48 rfl rfl b4 dX0_shift_30 ?_
  rcases onl_some h with ⟨w8, h⟩ | ⟨a', w8, h⟩
  · refine j_ifnonnull C dX0_shift_31 (tgt := 37) (by decide) (fun z => absurd w8 z) (fun _ => ?_)
    obtain ⟨h8, h9⟩ := sp2 h
    exact endN h8 h9
  refine j_ifnonnull C dX0_shift_31 (tgt := 37) (by decide) (fun _ => ?_) (fun z => by rw [w8] at z; cases z)
  refine j_aload_n C dX0_shift_37 rfl rfl ?_
  refine jx_geta hκ C 48 (by decide) rfl rfl q237 dX0_shift_38 ?_
  refine j_iload_n C dX0_shift_41 rfl rfl ?_
  refine jx_aald hκ C 48 rfl rfl b3 dX0_shift_42 ?_
  refine j_nn w7 ?_
  obtain ⟨x, gx, h⟩ := ob h
  by_cases cx : x.1 ∈ [14, 15, 16, 17, 18, 19, 20, 21]
  · replace h := ip cx h
    obtain ⟨h8, h9⟩ := sp2 h
    exact jx_castX hκ C ht q1500 gx cx jbad_Row dX0_shift_43 (catC 43 (Or.inl rfl)) (Nat.le_of_ble_eq_true rfl) (Nat.le_of_ble_eq_true rfl) (Nat.le_of_ble_eq_true rfl) (Nat.le_of_ble_eq_true rfl) (fun e => endC _ _ e h8 h9 (by decide) (by decide))
  replace h := im cx h
  obtain ⟨x', gx', h⟩ := ob h
  -- from the first cast on
  have mid : (x.1 = 23 ∨ x.1 = 24 ∨ x.1 = 25 ∨ x.1 = 26 ∨ x.1 = 27) → J κ Γ (230, 16, 1024, (fun u w' => u = some (.int v) ∧ w' = wX κ G T')) 7 (wX κ G T) 0 0 53 [some (.ref (G 0)), some (.int p1), some (.int p2), some (.int p3), some (.int p4), some (.int p5), none] [.ref a', .int p2, .ref a] → J κ Γ (230, 16, 1024, (fun u w' => u = some (.int v) ∧ w' = wX κ G T')) 7 (wX κ G T) 0 0 43 [some (.ref (G 0)), some (.int p1), some (.int p2), some (.int p3), some (.int p4), some (.int p5), none] [.ref a] := fun hx hj => by
    refine jx_castRow hκ C q1500 gx hx dX0_shift_43 ?_
    refine j_iload_n C dX0_shift_46 rfl rfl ?_
    refine j_aload_n C dX0_shift_47 rfl rfl ?_
    refine jx_geta hκ C 48 (by decide) rfl rfl q237 dX0_shift_48 ?_
    refine j_iload_n C dX0_shift_51 rfl rfl ?_
    refine jx_aald hκ C 48 rfl rfl b4 dX0_shift_52 ?_
    refine j_nn w8 ?_
    exact hj
  by_cases cx' : x'.1 ∈ [14, 15, 16, 17, 18, 19, 20, 21]
  · replace h := ip cx' h
    by_cases hx : x.1 = 23 ∨ x.1 = 24 ∨ x.1 = 25 ∨ x.1 = 26 ∨ x.1 = 27
    · replace h := ip hx h
      obtain ⟨h8, h9⟩ := sp2 h
      exact mid hx (jx_castX hκ C ht q1500 gx' cx' jbad_Row dX0_shift_53 (catC 53 (Or.inr (Or.inl rfl))) (Nat.le_of_ble_eq_true rfl) (Nat.le_of_ble_eq_true rfl) (Nat.le_of_ble_eq_true rfl) (Nat.le_of_ble_eq_true rfl) (fun e => endC _ _ e h8 h9 (by decide) (by decide)))
    · replace h := im hx h
      cases h
  replace h := im cx' h
  by_cases rx' : ¬ (x'.1 = 23 ∨ x'.1 = 24 ∨ x'.1 = 25 ∨ x'.1 = 26 ∨ x'.1 = 27)
  · replace h := im rx' h
    cases h
  replace rx' := Decidable.not_not.mp rx'
  replace h := ip rx' h
  have tail : (x.1 = 23 ∨ x.1 = 24 ∨ x.1 = 25 ∨ x.1 = 26 ∨ x.1 = 27) → J κ Γ (230, 16, 1024, (fun u w' => u = some (.int v) ∧ w' = wX κ G T')) 7 (wX κ G T) 0 0 60 [some (.ref (G 0)), some (.int p1), some (.int p2), some (.int p3), some (.int p4), some (.int p5), none] [.int p5, .int p4, .ref a', .int p2, .ref a] → J κ Γ (230, 16, 1024, (fun u w' => u = some (.int v) ∧ w' = wX κ G T')) 7 (wX κ G T) 0 0 43 [some (.ref (G 0)), some (.int p1), some (.int p2), some (.int p3), some (.int p4), some (.int p5), none] [.ref a] := fun hx hj => by
    refine mid hx ?_
    refine jx_castRow hκ C q1500 gx' rx' dX0_shift_53 ?_
    refine j_iload C dX0_shift_56 rfl ?_
    refine j_iload C dX0_shift_58 rfl ?_
    exact hj
  by_cases c : x.1 = 23
  · replace h := ip c h
    refine tail (Or.inl c) ?_
    obtain ⟨b, z, r1, h⟩ := ob2 h
    obtain ⟨q1, g1, -, -⟩ := rowZ_some r1
    by_cases cc : x'.1 ∈ [24, 25, 26, 27]
    · replace h := ip cc h
      obtain ⟨h8, h9⟩ := sp2 h
      exact jx_UX hκ C ht (catC 60 (Or.inr (Or.inr rfl))) (mt_r_copyC23 hκ G r1 gx' cc) ⟨q1542, q1544, q1552, q1553, q151, q1554, (Or.inl q1543), by decide, by decide⟩ (N := 4) (by decide +kernel) rfl g1 (by decide) rfl rfl dX0_shift_60 ⟨Nat.le_of_ble_eq_true rfl, by decide, Nat.le_of_ble_eq_true rfl, Nat.le_of_ble_eq_true rfl, Nat.le_of_ble_eq_true rfl⟩ rfl (fun e => endC _ _ e h8 h9 (by decide) (by decide))
    replace h := im cc h
    obtain ⟨b', z', r2, h⟩ := ob2 h
    by_cases cb : cpBad z.2.2.2.1 z'.2.2.2.1 p2 p4 p5
    · replace h := ip cb h
      by_cases cl : z.2.2.2.1 < 2147483648 ∧ z'.2.2.2.1 < 2147483648
      · replace h := ip cl h
        obtain ⟨h8, h9⟩ := sp2 h
        exact jx_UX hκ C ht catI (mt_r_copyA23 hκ G r1 r2 cb cl) ⟨q1542, q1544, q1552, q1553, q151, q1554, (Or.inl q1543), by decide, by decide⟩ (N := 4) (by decide +kernel) rfl g1 (by decide) rfl rfl dX0_shift_60 ⟨Nat.le_of_ble_eq_true rfl, by decide, Nat.le_of_ble_eq_true rfl, Nat.le_of_ble_eq_true rfl, Nat.le_of_ble_eq_true rfl⟩ rfl (fun e => endI _ _ e h8 h9 (by decide) (by decide))
      replace h := im cl h
      cases h
    replace h := im cb h
    refine jx_U hκ C (mt_r_copy23 hκ G r1 r2 cb) ⟨q1542, q1544, q1552, q1553, q151, q1554, (Or.inl q1543), by decide, by decide⟩ (N := 4) (by decide +kernel) rfl g1 (by decide) rfl rfl dX0_shift_60 (jfit.of (Nat.le_of_ble_eq_true rfl) (by decide) (Nat.le_of_ble_eq_true rfl) (Nat.le_of_ble_eq_true rfl) (Nat.le_of_ble_eq_true rfl)) rfl ?_
    refine jx_nmT h (fun T9 h => ?_)
    refine j_goto C dX0_shift_63 (tgt := 76) (by decide) ?_
    refine j_iload C dX0_shift_76 rfl ?_
    obtain ⟨rfl, rfl⟩ := sp2 h
    exact j_iret C dX0_shift_78 (Nat.le_of_ble_eq_true rfl) (Nat.le_of_ble_eq_true rfl) ⟨rfl, rfl⟩
  replace h := im c h
  by_cases c : x.1 = 24
  · replace h := ip c h
    refine tail (Or.inr (Or.inl c)) ?_
    obtain ⟨b, z, r1, h⟩ := ob2 h
    obtain ⟨q1, g1, -, -⟩ := rowZ_some r1
    by_cases cc : x'.1 ∈ [23, 25, 26, 27]
    · replace h := ip cc h
      obtain ⟨h8, h9⟩ := sp2 h
      exact jx_UX hκ C ht (catC 60 (Or.inr (Or.inr rfl))) (mt_r_copyC24 hκ G r1 gx' cc) ⟨q1542, q1544, q1567, q1568, q152, q1569, (Or.inl q1543), by decide, by decide⟩ (N := 4) (by decide +kernel) rfl g1 (by decide) rfl rfl dX0_shift_60 ⟨Nat.le_of_ble_eq_true rfl, by decide, Nat.le_of_ble_eq_true rfl, Nat.le_of_ble_eq_true rfl, Nat.le_of_ble_eq_true rfl⟩ rfl (fun e => endC _ _ e h8 h9 (by decide) (by decide))
    replace h := im cc h
    obtain ⟨b', z', r2, h⟩ := ob2 h
    by_cases cb : cpBad z.2.2.2.1 z'.2.2.2.1 p2 p4 p5
    · replace h := ip cb h
      by_cases cl : z.2.2.2.1 < 2147483648 ∧ z'.2.2.2.1 < 2147483648
      · replace h := ip cl h
        obtain ⟨h8, h9⟩ := sp2 h
        exact jx_UX hκ C ht catI (mt_r_copyA24 hκ G r1 r2 cb cl) ⟨q1542, q1544, q1567, q1568, q152, q1569, (Or.inl q1543), by decide, by decide⟩ (N := 4) (by decide +kernel) rfl g1 (by decide) rfl rfl dX0_shift_60 ⟨Nat.le_of_ble_eq_true rfl, by decide, Nat.le_of_ble_eq_true rfl, Nat.le_of_ble_eq_true rfl, Nat.le_of_ble_eq_true rfl⟩ rfl (fun e => endI _ _ e h8 h9 (by decide) (by decide))
      replace h := im cl h
      cases h
    replace h := im cb h
    refine jx_U hκ C (mt_r_copy24 hκ G r1 r2 cb) ⟨q1542, q1544, q1567, q1568, q152, q1569, (Or.inl q1543), by decide, by decide⟩ (N := 4) (by decide +kernel) rfl g1 (by decide) rfl rfl dX0_shift_60 (jfit.of (Nat.le_of_ble_eq_true rfl) (by decide) (Nat.le_of_ble_eq_true rfl) (Nat.le_of_ble_eq_true rfl) (Nat.le_of_ble_eq_true rfl)) rfl ?_
    refine jx_nmT h (fun T9 h => ?_)
    refine j_goto C dX0_shift_63 (tgt := 76) (by decide) ?_
    refine j_iload C dX0_shift_76 rfl ?_
    obtain ⟨rfl, rfl⟩ := sp2 h
    exact j_iret C dX0_shift_78 (Nat.le_of_ble_eq_true rfl) (Nat.le_of_ble_eq_true rfl) ⟨rfl, rfl⟩
  replace h := im c h
  by_cases c : x.1 = 25
  · replace h := ip c h
    refine tail (Or.inr (Or.inr (Or.inl c))) ?_
    obtain ⟨b, z, r1, h⟩ := ob2 h
    obtain ⟨q1, g1, -, -⟩ := rowZ_some r1
    by_cases cc : x'.1 ∈ [23, 24, 26, 27]
    · replace h := ip cc h
      obtain ⟨h8, h9⟩ := sp2 h
      exact jx_UX hκ C ht (catC 60 (Or.inr (Or.inr rfl))) (mt_r_copyC25 hκ G r1 gx' cc) ⟨q1542, q1544, q1557, q1558, q153, q1559, (Or.inl q1543), by decide, by decide⟩ (N := 4) (by decide +kernel) rfl g1 (by decide) rfl rfl dX0_shift_60 ⟨Nat.le_of_ble_eq_true rfl, by decide, Nat.le_of_ble_eq_true rfl, Nat.le_of_ble_eq_true rfl, Nat.le_of_ble_eq_true rfl⟩ rfl (fun e => endC _ _ e h8 h9 (by decide) (by decide))
    replace h := im cc h
    obtain ⟨b', z', r2, h⟩ := ob2 h
    by_cases cb : cpBad z.2.2.2.1 z'.2.2.2.1 p2 p4 p5
    · replace h := ip cb h
      by_cases cl : z.2.2.2.1 < 2147483648 ∧ z'.2.2.2.1 < 2147483648
      · replace h := ip cl h
        obtain ⟨h8, h9⟩ := sp2 h
        exact jx_UX hκ C ht catI (mt_r_copyA25 hκ G r1 r2 cb cl) ⟨q1542, q1544, q1557, q1558, q153, q1559, (Or.inl q1543), by decide, by decide⟩ (N := 4) (by decide +kernel) rfl g1 (by decide) rfl rfl dX0_shift_60 ⟨Nat.le_of_ble_eq_true rfl, by decide, Nat.le_of_ble_eq_true rfl, Nat.le_of_ble_eq_true rfl, Nat.le_of_ble_eq_true rfl⟩ rfl (fun e => endI _ _ e h8 h9 (by decide) (by decide))
      replace h := im cl h
      cases h
    replace h := im cb h
    refine jx_U hκ C (mt_r_copy25 hκ G r1 r2 cb) ⟨q1542, q1544, q1557, q1558, q153, q1559, (Or.inl q1543), by decide, by decide⟩ (N := 4) (by decide +kernel) rfl g1 (by decide) rfl rfl dX0_shift_60 (jfit.of (Nat.le_of_ble_eq_true rfl) (by decide) (Nat.le_of_ble_eq_true rfl) (Nat.le_of_ble_eq_true rfl) (Nat.le_of_ble_eq_true rfl)) rfl ?_
    refine jx_nmT h (fun T9 h => ?_)
    refine j_goto C dX0_shift_63 (tgt := 76) (by decide) ?_
    refine j_iload C dX0_shift_76 rfl ?_
    obtain ⟨rfl, rfl⟩ := sp2 h
    exact j_iret C dX0_shift_78 (Nat.le_of_ble_eq_true rfl) (Nat.le_of_ble_eq_true rfl) ⟨rfl, rfl⟩
  replace h := im c h
  by_cases c : x.1 = 26
  · replace h := ip c h
    refine tail (Or.inr (Or.inr (Or.inr (Or.inl c)))) ?_
    obtain ⟨b, z, r1, h⟩ := ob2 h
    obtain ⟨q1, g1, -, -⟩ := rowZ_some r1
    by_cases cc : x'.1 ∈ [23, 24, 25, 27]
    · replace h := ip cc h
      obtain ⟨h8, h9⟩ := sp2 h
      exact jx_UX hκ C ht (catC 60 (Or.inr (Or.inr rfl))) (mt_r_copyC26 hκ G r1 gx' cc) ⟨q1542, q1544, q1562, q1563, q154, q1564, (Or.inl q1543), by decide, by decide⟩ (N := 4) (by decide +kernel) rfl g1 (by decide) rfl rfl dX0_shift_60 ⟨Nat.le_of_ble_eq_true rfl, by decide, Nat.le_of_ble_eq_true rfl, Nat.le_of_ble_eq_true rfl, Nat.le_of_ble_eq_true rfl⟩ rfl (fun e => endC _ _ e h8 h9 (by decide) (by decide))
    replace h := im cc h
    obtain ⟨b', z', r2, h⟩ := ob2 h
    by_cases cb : cpBad z.2.2.2.1 z'.2.2.2.1 p2 p4 p5
    · replace h := ip cb h
      by_cases cl : z.2.2.2.1 < 2147483648 ∧ z'.2.2.2.1 < 2147483648
      · replace h := ip cl h
        obtain ⟨h8, h9⟩ := sp2 h
        exact jx_UX hκ C ht catI (mt_r_copyA26 hκ G r1 r2 cb cl) ⟨q1542, q1544, q1562, q1563, q154, q1564, (Or.inl q1543), by decide, by decide⟩ (N := 4) (by decide +kernel) rfl g1 (by decide) rfl rfl dX0_shift_60 ⟨Nat.le_of_ble_eq_true rfl, by decide, Nat.le_of_ble_eq_true rfl, Nat.le_of_ble_eq_true rfl, Nat.le_of_ble_eq_true rfl⟩ rfl (fun e => endI _ _ e h8 h9 (by decide) (by decide))
      replace h := im cl h
      cases h
    replace h := im cb h
    refine jx_U hκ C (mt_r_copy26 hκ G r1 r2 cb) ⟨q1542, q1544, q1562, q1563, q154, q1564, (Or.inl q1543), by decide, by decide⟩ (N := 4) (by decide +kernel) rfl g1 (by decide) rfl rfl dX0_shift_60 (jfit.of (Nat.le_of_ble_eq_true rfl) (by decide) (Nat.le_of_ble_eq_true rfl) (Nat.le_of_ble_eq_true rfl) (Nat.le_of_ble_eq_true rfl)) rfl ?_
    refine jx_nmT h (fun T9 h => ?_)
    refine j_goto C dX0_shift_63 (tgt := 76) (by decide) ?_
    refine j_iload C dX0_shift_76 rfl ?_
    obtain ⟨rfl, rfl⟩ := sp2 h
    exact j_iret C dX0_shift_78 (Nat.le_of_ble_eq_true rfl) (Nat.le_of_ble_eq_true rfl) ⟨rfl, rfl⟩
  replace h := im c h
  by_cases c : x.1 = 27
  · replace h := ip c h
    refine tail (Or.inr (Or.inr (Or.inr (Or.inr c)))) ?_
    obtain ⟨b, z, r1, h⟩ := ob2 h
    obtain ⟨q1, g1, -, -⟩ := rowZ_some r1
    by_cases cc : x'.1 ∈ [23, 24, 25, 26]
    · replace h := ip cc h
      obtain ⟨h8, h9⟩ := sp2 h
      exact jx_UX hκ C ht (catC 60 (Or.inr (Or.inr rfl))) (mt_r_copyC27 hκ G r1 gx' cc) ⟨q1542, q1544, q1545, q1546, q155, q1547, (Or.inl q1543), by decide, by decide⟩ (N := 4) (by decide +kernel) rfl g1 (by decide) rfl rfl dX0_shift_60 ⟨Nat.le_of_ble_eq_true rfl, by decide, Nat.le_of_ble_eq_true rfl, Nat.le_of_ble_eq_true rfl, Nat.le_of_ble_eq_true rfl⟩ rfl (fun e => endC _ _ e h8 h9 (by decide) (by decide))
    replace h := im cc h
    obtain ⟨b', z', r2, h⟩ := ob2 h
    by_cases cb : cpBad z.2.2.2.1 z'.2.2.2.1 p2 p4 p5
    · replace h := ip cb h
      by_cases cl : z.2.2.2.1 < 2147483648 ∧ z'.2.2.2.1 < 2147483648
      · replace h := ip cl h
        obtain ⟨h8, h9⟩ := sp2 h
        exact jx_UX hκ C ht catI (mt_r_copyA27 hκ G r1 r2 cb cl) ⟨q1542, q1544, q1545, q1546, q155, q1547, (Or.inl q1543), by decide, by decide⟩ (N := 4) (by decide +kernel) rfl g1 (by decide) rfl rfl dX0_shift_60 ⟨Nat.le_of_ble_eq_true rfl, by decide, Nat.le_of_ble_eq_true rfl, Nat.le_of_ble_eq_true rfl, Nat.le_of_ble_eq_true rfl⟩ rfl (fun e => endI _ _ e h8 h9 (by decide) (by decide))
      replace h := im cl h
      cases h
    replace h := im cb h
    refine jx_U hκ C (mt_r_copy27 hκ G r1 r2 cb) ⟨q1542, q1544, q1545, q1546, q155, q1547, (Or.inl q1543), by decide, by decide⟩ (N := 4) (by decide +kernel) rfl g1 (by decide) rfl rfl dX0_shift_60 (jfit.of (Nat.le_of_ble_eq_true rfl) (by decide) (Nat.le_of_ble_eq_true rfl) (Nat.le_of_ble_eq_true rfl) (Nat.le_of_ble_eq_true rfl)) rfl ?_
    refine jx_nmT h (fun T9 h => ?_)
    refine j_goto C dX0_shift_63 (tgt := 76) (by decide) ?_
    refine j_iload C dX0_shift_76 rfl ?_
    obtain ⟨rfl, rfl⟩ := sp2 h
    exact j_iret C dX0_shift_78 (Nat.le_of_ble_eq_true rfl) (Nat.le_of_ble_eq_true rfl) ⟨rfl, rfl⟩
  replace h := im c h
  cases h
