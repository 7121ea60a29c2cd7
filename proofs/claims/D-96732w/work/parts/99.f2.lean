/-! THE ROWS' copy. Printed by cprows.py; own text. -/
set_option maxRecDepth 100000
def cpyI (z z' : XO) (sp dp n : Nat) : XO := (z'.1, z'.2.1, z'.2.2.1, z'.2.2.2.1, va_cpy z.2.2.2.2.1 z'.2.2.2.2.1 sp dp n, z'.2.2.2.2.2)
def cpyL (z z' : XO) (sp dp n : Nat) : XO := (z'.1, z'.2.1, z'.2.2.1, z'.2.2.2.1, z'.2.2.2.2.1, va_cpy z.2.2.2.2.2 z'.2.2.2.2.2 sp dp n)
def cpyZ (t : Nat) (z z' : XO) (sp dp n : Nat) : XO := if t = 26 then cpyL z z' sp dp n else cpyI z z' sp dp n
section CPO
variable {κ : jK} {p : Program} {e : Env} {s : State} {m : MethodId} {args : Array Value} {below : List Frame} {meth : Method} {c : Code} {A : Nat → Prop} {cc : ByteArray} {nL : Nat} {own : String} {ret : Option FieldType} {H : Heap} {locs : List Loc} {ls : Array Slot} {w : jW} {L : List (Option Value)} {f mc ms k n pc : Nat} {rest : List Value} {post : Option Value → jW → Prop}
theorem j_copyOut (hκ : jX κ) (C : jC κ (p, e, s, m, args, below, meth, c, A) cc nL own ret) (hno : ∀ x ∈ c.exceptionTable.toList, False) (hP : jP κ.2.1 κ.2.2.1 w H) (hD : jD A w) (hS : va_S A s.heap H locs) (hl : jL ls nL L) {index t0 src dst n0 n1 : Nat} {c0 : ClassId} {ty : FieldType} {cs cd : Cell} (hlink : Cond.methodLink own index arraycopyName ∈ lw_all) (hnat : Cond.native arraycopyName ∈ lw_all) (hstat : Cond.static arraycopyName ∈ lw_all) (hini : Cond.initialized "java/lang/System" ∈ lw_all)
    (hc0 : H[src]? = some cs) (hc1 : H[dst]? = some cd) (e0 : cs.cls = c0 ∧ cs.vm = .none ∧ cs.slots.size = n0) (e1 : cd.cls = c0 ∧ cd.vm = .none ∧ cd.slots.size = n1) (ht : κ.2.2.2.1[t0]? = some (c0, ty)) {sp dp q : Int32} (hbad : cpBad n0 n1 sp dp q) (h31 : n0 < 2 ^ 31 ∧ n1 < 2 ^ 31) (hf : 220 ≤ f) (hsum : (rest.map fun v => v.category).sum ≤ 8) (hk : k + 3 ≤ mc) (hn : n + 1000 ≤ ms) (hd : decode cc pc = .ok (.invokestatic index, 3)) :
    W p κ.1 e (jR f mc ms) s m args below meth c H locs k n (vx_MQ below (jQ κ post A) (jXC κ w "java/lang/ArrayIndexOutOfBoundsException" A) args s mc ms A) (F0 m pc ls (.int q :: .int dp :: .ref dst :: .int sp :: .ref src :: rest)) := by
  obtain ⟨hx', hb, hml, hown, hts, hA, hK, hX, hc8, hc9, hZ, hlocks, hr⟩ := C
  obtain ⟨-, k0, hk0, cm0, hkk0⟩ := (hK.2 t0 _ ht).1 n0 (fun j => .int 0)
  have hk0' : s.vm.classes[c0]? = some k0 := hk0
  obtain ⟨what, w1, w2⟩ := cp_fault (ty := ty) h31.1 h31.2 hbad
  obtain ⟨w3, w4⟩ := cp_txt w2
  refine vx_copyZ hx' hb hκ.1.1.2 hown (hts _ hlink) (hts _ hnat) (hts _ hstat) (hts _ hini) (cls := "java/lang/ArrayIndexOutOfBoundsException") (names := ["java/lang/IndexOutOfBoundsException", "java/lang/RuntimeException", "java/lang/Exception"]) (A := A) rfl (by decide) (by decide) rfl rfl (jhat hκ.2 hts hX jLAIO_pl jLAIO_g) (jhot jLAIO_o) hZ.1 hZ.2.1 hS (hl.1.trans hml.symm) hc0 hc1 (fun _ h => by rw [e0.2.1] at h; cases h) (fun _ h => by rw [e1.2.1] at h; cases h) (by rw [e0.1]; exact hk0') (by rw [e1.1]; exact hk0') hkk0 hkk0 (by rw [e0.2.2, e1.2.2]; exact w1) w3 w4 (show 3 + 5 < f by omega) (show _ + 10240 ≤ 48 * f by omega) (by decide) hk hn hd (fun H1 q9 ce hz hq hS1 hce hv hcl => ?_)
  exact vx_out (fun x hx => (hno x hx).elim) hlocks hce hv hcl (fun t ht hW => ⟨rfl, by rw [ht]; exact hP.kept fun r q hr => hq q.1 (hP r q hr).lt, hD, hS1.F ht⟩) hS1.2.2 hk hn
end CPO
theorem mt_r_copy23 {κ : jK} (hκ : jX κ) (G : Nat → Nat) {T : XS} {a b a' b' : Nat} {z z' : XO} {i j n : Int32} (h : rowZ T a 23 = some (b, z)) (h' : rowZ T a' 23 = some (b', z')) (hok : ¬ cpBad z.2.2.2.1 z'.2.2.2.1 i j n) : jM κ yX23_copy (ws_ yX23_copy cX23_copy 5 none) 8 0 0 [.ref a, .int i, .ref a', .int j, .int n] (wX κ G T) (fun u w' => u = none ∧ w' = wX κ G (xO T b' (cpyI z z' i.toNatClampNeg j.toNatClampNeg n.toNatClampNeg))) := by
  obtain ⟨x, hx, hb, hz⟩ := rowZ_some h
  obtain ⟨x', hx', hb', hz'⟩ := rowZ_some h'
  have he : wX κ G T (100 + b) = some (b, .inl (jt κ 3, z.2.2.2.1, .inl z.2.2.2.2.1)) := by rw [wX_arr hz, obE_30 (getO_some hz).2]
  have he' : wX κ G T (100 + b') = some (b', .inl (jt κ 3, z'.2.2.2.1, .inl z'.2.2.2.2.1)) := by rw [wX_arr hz', obE_30 (getO_some hz').2]
  refine jM.of (by decide) rfl (Nat.le_of_ble_eq_true rfl) fun Γ C _ => ?_
  show J κ Γ _ 5 (wX κ G T) 0 0 0 [some (.ref a), some (.int i), some (.ref a'), some (.int j), some (.int n)] []
  refine j_aload_n C dX23_copy_0 rfl rfl ?_
  refine jx_gr23 hκ C hx 0 (by decide) rfl q1451 dX23_copy_1 ?_
  rw [hb]
  refine j_iload_n C dX23_copy_4 rfl rfl ?_
  refine j_aload_n C dX23_copy_5 rfl rfl ?_
  refine jx_castY hκ C q1555 hx' (by decide) rfl rfl (Or.inr rfl) dX23_copy_6 ?_
  refine jx_gr23 hκ C hx' 0 (by decide) rfl q1451 dX23_copy_9 ?_
  rw [hb']
  refine j_iload_n C dX23_copy_12 rfl rfl ?_
  refine j_iload C dX23_copy_13 rfl ?_
  refine j_copyi C (100 + b) (100 + b') 3 q1556 q1551 q1550 q156 he he' (hκ.ty 3 rfl) rfl hok (fun q hq => rowZ_fit h q hq) (Nat.le_of_ble_eq_true rfl) (Nat.le_of_ble_eq_true rfl) dX23_copy_15 ?_
  have e : jset (wX κ G T) (100 + b') (b', obE κ G (cpyI z z' i.toNatClampNeg j.toNatClampNeg n.toNatClampNeg)) = _ := wX_sO κ G T b' (cpyI z z' i.toNatClampNeg j.toNatClampNeg n.toNatClampNeg)
  rw [obE_30 (z := cpyI z z' i.toNatClampNeg j.toNatClampNeg n.toNatClampNeg) (getO_some hz').2] at e
  refine j_world e ?_
  exact j_vret C dX23_copy_18 (Nat.zero_le _) (Nat.zero_le _) ⟨rfl, rfl⟩
theorem mt_r_copyC23 {κ : jK} (hκ : jX κ) (G : Nat → Nat) {T : XS} {a b a' : Nat} {z x' : XO} {i j n : Int32} (h : rowZ T a 23 = some (b, z)) (hx' : T.2.2.2 a' = some x') (hbad : x'.1 ∈ [24, 25, 26, 27]) : jXM κ yX23_copy (ws_ yX23_copy cX23_copy 5 none) 220 3 1000 [.ref a, .int i, .ref a', .int j, .int n] (wX κ G T) (fun _ _ => False) "java/lang/ClassCastException" := by
  obtain ⟨x, hx, hb, hz⟩ := rowZ_some h
  obtain ⟨t1, t2, t3, t4, t5⟩ := jBadB_ok (List.all_eq_true.mp (show [24, 25, 26, 27].all (jBadB "NineKeysRound$ByteRow") = true by decide +kernel) _ hbad)
  obtain ⟨vc, hvc, hcn⟩ := jCn_some t2
  refine jXM.ofB (by decide) rfl (Nat.le_of_ble_eq_true rfl) fun p e s m args below meth c A ls C hnm hno hP hD hl => ?_
  have hl : jL ls 5 [some (.ref a), some (.int i), some (.ref a'), some (.int j), some (.int n)] := hl
  have C0 := C
  obtain ⟨hx9, hb9, hml, hown, hts, hA, hK, hX9, -⟩ := C
  refine lv_aload_n hx9 hb9 dX23_copy_0 rfl (hl.at (i := 0) rfl) ?_
  refine va_get (T := TX23) hx9 hb9 hts in_X23 hown hK (jP1 hP (wX_obt hx (by decide))) 0 rfl (hκ.cl rfl) 0 (by decide) (hts _ q1451) (fun _ h => h) (fsO_r hx (by decide) rfl) dX23_copy_1 ?_
  rw [hb]
  refine lv_iload_n hx9 hb9 dX23_copy_4 rfl (hl.at (i := 1) rfl) ?_
  refine lv_aload_n hx9 hb9 dX23_copy_5 rfl (hl.at (i := 2) rfl) ?_
  obtain ⟨q', h1, cell, g1, g2, g3, -⟩ := hP (100 + a') _ (wX_obt (getO_eq hx' rfl) t1)
  have e2 : q' = vc := Option.some.inj (h1.symm.trans (hκ.cl hvc))
  refine W_castNo hx9 hb9 (C := jCn x'.1) hown (hts _ q1555) g1 (by rw [g3]; rfl) (by rw [g2, ← hcn, ← e2]; exact (hK.1 _ q' h1).2.1) ((hκ.2 s hX9).2.2.1 _ t3) (hκ.2 s hX9).2.1 t4 t5 dX23_copy_6 (fun tx u1 u2 => ?_)
  exact j_out hκ C0 hno hP hD va_S.rf hl (names := ["java/lang/RuntimeException", "java/lang/Exception"]) (nb := 990) (by decide) (by decide) rfl rfl jLCCE_pl jLCCE_g jLCCE_o u1 u2 (by decide) (by decide) (by decide) (Nat.le_of_ble_eq_true rfl) (by decide) (by decide)
theorem mt_r_copyA23 {κ : jK} (hκ : jX κ) (G : Nat → Nat) {T : XS} {a b a' b' : Nat} {z z' : XO} {i j n : Int32} (h : rowZ T a 23 = some (b, z)) (h' : rowZ T a' 23 = some (b', z')) (hbad : cpBad z.2.2.2.1 z'.2.2.2.1 i j n) (h31 : z.2.2.2.1 < 2 ^ 31 ∧ z'.2.2.2.1 < 2 ^ 31) : jXM κ yX23_copy (ws_ yX23_copy cX23_copy 5 none) 220 3 1000 [.ref a, .int i, .ref a', .int j, .int n] (wX κ G T) (fun _ _ => False) "java/lang/ArrayIndexOutOfBoundsException" := by
  obtain ⟨x, hx, hb, hz⟩ := rowZ_some h
  obtain ⟨x', hx', hb', hz'⟩ := rowZ_some h'
  have he : wX κ G T (100 + b) = some (b, .inl (jt κ 3, z.2.2.2.1, .inl z.2.2.2.2.1)) := by rw [wX_arr hz, obE_30 (getO_some hz).2]
  have he' : wX κ G T (100 + b') = some (b', .inl (jt κ 3, z'.2.2.2.1, .inl z'.2.2.2.2.1)) := by rw [wX_arr hz', obE_30 (getO_some hz').2]
  refine jXM.ofB (by decide) rfl (Nat.le_of_ble_eq_true rfl) fun p e s m args below meth c A ls C hnm hno hP hD hl => ?_
  have hl : jL ls 5 [some (.ref a), some (.int i), some (.ref a'), some (.int j), some (.int n)] := hl
  have C0 := C
  obtain ⟨hx9, hb9, hml, hown, hts, hA, hK, hX9, -⟩ := C
  refine lv_aload_n hx9 hb9 dX23_copy_0 rfl (hl.at (i := 0) rfl) ?_
  refine va_get (T := TX23) hx9 hb9 hts in_X23 hown hK (jP1 hP (wX_obt hx (by decide))) 0 rfl (hκ.cl rfl) 0 (by decide) (hts _ q1451) (fun _ h => h) (fsO_r hx (by decide) rfl) dX23_copy_1 ?_
  rw [hb]
  refine lv_iload_n hx9 hb9 dX23_copy_4 rfl (hl.at (i := 1) rfl) ?_
  refine lv_aload_n hx9 hb9 dX23_copy_5 rfl (hl.at (i := 2) rfl) ?_
  obtain ⟨q', h1, cell, g1, g2, g3, -⟩ := hP (100 + a') _ (wX_obt hx' (by decide))
  have e2 : q'.1 = "NineKeysRound$ByteRow" := by
    have e3 := Option.some.inj (h1.symm.trans (hκ.cl rfl))
    rw [e3]; rfl
  have e4 := (hK.1 _ q' h1).2
  rw [e2] at e4
  refine va_castS hx9 hb9 hown (hts _ q1555) e4 ⟨cell, g1, by rw [g3]; rfl, by rw [g2, ← e2]; exact (hK.1 _ q' h1).2.1⟩ dX23_copy_6 ?_
  refine va_get (T := TX23) hx9 hb9 hts in_X23 hown hK (jP1 hP (wX_obt hx' (by decide))) 0 rfl (hκ.cl rfl) 0 (by decide) (hts _ q1451) (fun _ h => h) (fsO_r hx' (by decide) rfl) dX23_copy_9 ?_
  rw [hb']
  refine lv_iload_n hx9 hb9 dX23_copy_12 rfl (hl.at (i := 3) rfl) ?_
  refine lv_iload hx9 hb9 dX23_copy_13 (hl.at (i := 4) rfl) ?_
  exact j_copyOut hκ C0 hno hP hD va_S.rf hl (t0 := 3) q1556 q1551 q1550 q156 (hP _ _ he) (hP _ _ he') ⟨rfl, rfl, arrV_size ..⟩ ⟨rfl, rfl, arrV_size ..⟩ (hκ.ty 3 rfl) hbad h31 (by decide) (by decide) (by decide) (by decide) dX23_copy_15
theorem mt_r_copy24 {κ : jK} (hκ : jX κ) (G : Nat → Nat) {T : XS} {a b a' b' : Nat} {z z' : XO} {i j n : Int32} (h : rowZ T a 24 = some (b, z)) (h' : rowZ T a' 24 = some (b', z')) (hok : ¬ cpBad z.2.2.2.1 z'.2.2.2.1 i j n) : jM κ yX24_copy (ws_ yX24_copy cX24_copy 5 none) 8 0 0 [.ref a, .int i, .ref a', .int j, .int n] (wX κ G T) (fun u w' => u = none ∧ w' = wX κ G (xO T b' (cpyI z z' i.toNatClampNeg j.toNatClampNeg n.toNatClampNeg))) := by
  obtain ⟨x, hx, hb, hz⟩ := rowZ_some h
  obtain ⟨x', hx', hb', hz'⟩ := rowZ_some h'
  have he : wX κ G T (100 + b) = some (b, .inl (jt κ 4, z.2.2.2.1, .inl z.2.2.2.2.1)) := by rw [wX_arr hz, obE_31 (getO_some hz).2]
  have he' : wX κ G T (100 + b') = some (b', .inl (jt κ 4, z'.2.2.2.1, .inl z'.2.2.2.2.1)) := by rw [wX_arr hz', obE_31 (getO_some hz').2]
  refine jM.of (by decide) rfl (Nat.le_of_ble_eq_true rfl) fun Γ C _ => ?_
  show J κ Γ _ 5 (wX κ G T) 0 0 0 [some (.ref a), some (.int i), some (.ref a'), some (.int j), some (.int n)] []
  refine j_aload_n C dX24_copy_0 rfl rfl ?_
  refine jx_gr24 hκ C hx 0 (by decide) rfl q1460 dX24_copy_1 ?_
  rw [hb]
  refine j_iload_n C dX24_copy_4 rfl rfl ?_
  refine j_aload_n C dX24_copy_5 rfl rfl ?_
  refine jx_castY hκ C q1570 hx' (by decide) rfl rfl (Or.inr rfl) dX24_copy_6 ?_
  refine jx_gr24 hκ C hx' 0 (by decide) rfl q1460 dX24_copy_9 ?_
  rw [hb']
  refine j_iload_n C dX24_copy_12 rfl rfl ?_
  refine j_iload C dX24_copy_13 rfl ?_
  refine j_copyi C (100 + b) (100 + b') 4 q1571 q1551 q1550 q156 he he' (hκ.ty 4 rfl) rfl hok (fun q hq => rowZ_fit h q hq) (Nat.le_of_ble_eq_true rfl) (Nat.le_of_ble_eq_true rfl) dX24_copy_15 ?_
  have e : jset (wX κ G T) (100 + b') (b', obE κ G (cpyI z z' i.toNatClampNeg j.toNatClampNeg n.toNatClampNeg)) = _ := wX_sO κ G T b' (cpyI z z' i.toNatClampNeg j.toNatClampNeg n.toNatClampNeg)
  rw [obE_31 (z := cpyI z z' i.toNatClampNeg j.toNatClampNeg n.toNatClampNeg) (getO_some hz').2] at e
  refine j_world e ?_
  exact j_vret C dX24_copy_18 (Nat.zero_le _) (Nat.zero_le _) ⟨rfl, rfl⟩
theorem mt_r_copyC24 {κ : jK} (hκ : jX κ) (G : Nat → Nat) {T : XS} {a b a' : Nat} {z x' : XO} {i j n : Int32} (h : rowZ T a 24 = some (b, z)) (hx' : T.2.2.2 a' = some x') (hbad : x'.1 ∈ [23, 25, 26, 27]) : jXM κ yX24_copy (ws_ yX24_copy cX24_copy 5 none) 220 3 1000 [.ref a, .int i, .ref a', .int j, .int n] (wX κ G T) (fun _ _ => False) "java/lang/ClassCastException" := by
  obtain ⟨x, hx, hb, hz⟩ := rowZ_some h
  obtain ⟨t1, t2, t3, t4, t5⟩ := jBadB_ok (List.all_eq_true.mp (show [23, 25, 26, 27].all (jBadB "NineKeysRound$ShortRow") = true by decide +kernel) _ hbad)
  obtain ⟨vc, hvc, hcn⟩ := jCn_some t2
  refine jXM.ofB (by decide) rfl (Nat.le_of_ble_eq_true rfl) fun p e s m args below meth c A ls C hnm hno hP hD hl => ?_
  have hl : jL ls 5 [some (.ref a), some (.int i), some (.ref a'), some (.int j), some (.int n)] := hl
  have C0 := C
  obtain ⟨hx9, hb9, hml, hown, hts, hA, hK, hX9, -⟩ := C
  refine lv_aload_n hx9 hb9 dX24_copy_0 rfl (hl.at (i := 0) rfl) ?_
  refine va_get (T := TX24) hx9 hb9 hts in_X24 hown hK (jP1 hP (wX_obt hx (by decide))) 0 rfl (hκ.cl rfl) 0 (by decide) (hts _ q1460) (fun _ h => h) (fsO_r hx (by decide) rfl) dX24_copy_1 ?_
  rw [hb]
  refine lv_iload_n hx9 hb9 dX24_copy_4 rfl (hl.at (i := 1) rfl) ?_
  refine lv_aload_n hx9 hb9 dX24_copy_5 rfl (hl.at (i := 2) rfl) ?_
  obtain ⟨q', h1, cell, g1, g2, g3, -⟩ := hP (100 + a') _ (wX_obt (getO_eq hx' rfl) t1)
  have e2 : q' = vc := Option.some.inj (h1.symm.trans (hκ.cl hvc))
  refine W_castNo hx9 hb9 (C := jCn x'.1) hown (hts _ q1570) g1 (by rw [g3]; rfl) (by rw [g2, ← hcn, ← e2]; exact (hK.1 _ q' h1).2.1) ((hκ.2 s hX9).2.2.1 _ t3) (hκ.2 s hX9).2.1 t4 t5 dX24_copy_6 (fun tx u1 u2 => ?_)
  exact j_out hκ C0 hno hP hD va_S.rf hl (names := ["java/lang/RuntimeException", "java/lang/Exception"]) (nb := 990) (by decide) (by decide) rfl rfl jLCCE_pl jLCCE_g jLCCE_o u1 u2 (by decide) (by decide) (by decide) (Nat.le_of_ble_eq_true rfl) (by decide) (by decide)
theorem mt_r_copyA24 {κ : jK} (hκ : jX κ) (G : Nat → Nat) {T : XS} {a b a' b' : Nat} {z z' : XO} {i j n : Int32} (h : rowZ T a 24 = some (b, z)) (h' : rowZ T a' 24 = some (b', z')) (hbad : cpBad z.2.2.2.1 z'.2.2.2.1 i j n) (h31 : z.2.2.2.1 < 2 ^ 31 ∧ z'.2.2.2.1 < 2 ^ 31) : jXM κ yX24_copy (ws_ yX24_copy cX24_copy 5 none) 220 3 1000 [.ref a, .int i, .ref a', .int j, .int n] (wX κ G T) (fun _ _ => False) "java/lang/ArrayIndexOutOfBoundsException" := by
  obtain ⟨x, hx, hb, hz⟩ := rowZ_some h
  obtain ⟨x', hx', hb', hz'⟩ := rowZ_some h'
  have he : wX κ G T (100 + b) = some (b, .inl (jt κ 4, z.2.2.2.1, .inl z.2.2.2.2.1)) := by rw [wX_arr hz, obE_31 (getO_some hz).2]
  have he' : wX κ G T (100 + b') = some (b', .inl (jt κ 4, z'.2.2.2.1, .inl z'.2.2.2.2.1)) := by rw [wX_arr hz', obE_31 (getO_some hz').2]
  refine jXM.ofB (by decide) rfl (Nat.le_of_ble_eq_true rfl) fun p e s m args below meth c A ls C hnm hno hP hD hl => ?_
  have hl : jL ls 5 [some (.ref a), some (.int i), some (.ref a'), some (.int j), some (.int n)] := hl
  have C0 := C
  obtain ⟨hx9, hb9, hml, hown, hts, hA, hK, hX9, -⟩ := C
  refine lv_aload_n hx9 hb9 dX24_copy_0 rfl (hl.at (i := 0) rfl) ?_
  refine va_get (T := TX24) hx9 hb9 hts in_X24 hown hK (jP1 hP (wX_obt hx (by decide))) 0 rfl (hκ.cl rfl) 0 (by decide) (hts _ q1460) (fun _ h => h) (fsO_r hx (by decide) rfl) dX24_copy_1 ?_
  rw [hb]
  refine lv_iload_n hx9 hb9 dX24_copy_4 rfl (hl.at (i := 1) rfl) ?_
  refine lv_aload_n hx9 hb9 dX24_copy_5 rfl (hl.at (i := 2) rfl) ?_
  obtain ⟨q', h1, cell, g1, g2, g3, -⟩ := hP (100 + a') _ (wX_obt hx' (by decide))
  have e2 : q'.1 = "NineKeysRound$ShortRow" := by
    have e3 := Option.some.inj (h1.symm.trans (hκ.cl rfl))
    rw [e3]; rfl
  have e4 := (hK.1 _ q' h1).2
  rw [e2] at e4
  refine va_castS hx9 hb9 hown (hts _ q1570) e4 ⟨cell, g1, by rw [g3]; rfl, by rw [g2, ← e2]; exact (hK.1 _ q' h1).2.1⟩ dX24_copy_6 ?_
  refine va_get (T := TX24) hx9 hb9 hts in_X24 hown hK (jP1 hP (wX_obt hx' (by decide))) 0 rfl (hκ.cl rfl) 0 (by decide) (hts _ q1460) (fun _ h => h) (fsO_r hx' (by decide) rfl) dX24_copy_9 ?_
  rw [hb']
  refine lv_iload_n hx9 hb9 dX24_copy_12 rfl (hl.at (i := 3) rfl) ?_
  refine lv_iload hx9 hb9 dX24_copy_13 (hl.at (i := 4) rfl) ?_
  exact j_copyOut hκ C0 hno hP hD va_S.rf hl (t0 := 4) q1571 q1551 q1550 q156 (hP _ _ he) (hP _ _ he') ⟨rfl, rfl, arrV_size ..⟩ ⟨rfl, rfl, arrV_size ..⟩ (hκ.ty 4 rfl) hbad h31 (by decide) (by decide) (by decide) (by decide) dX24_copy_15
theorem mt_r_copy25 {κ : jK} (hκ : jX κ) (G : Nat → Nat) {T : XS} {a b a' b' : Nat} {z z' : XO} {i j n : Int32} (h : rowZ T a 25 = some (b, z)) (h' : rowZ T a' 25 = some (b', z')) (hok : ¬ cpBad z.2.2.2.1 z'.2.2.2.1 i j n) : jM κ yX25_copy (ws_ yX25_copy cX25_copy 5 none) 8 0 0 [.ref a, .int i, .ref a', .int j, .int n] (wX κ G T) (fun u w' => u = none ∧ w' = wX κ G (xO T b' (cpyI z z' i.toNatClampNeg j.toNatClampNeg n.toNatClampNeg))) := by
  obtain ⟨x, hx, hb, hz⟩ := rowZ_some h
  obtain ⟨x', hx', hb', hz'⟩ := rowZ_some h'
  have he : wX κ G T (100 + b) = some (b, .inl (jt κ 0, z.2.2.2.1, .inl z.2.2.2.2.1)) := by rw [wX_arr hz, obE_32 (getO_some hz).2]
  have he' : wX κ G T (100 + b') = some (b', .inl (jt κ 0, z'.2.2.2.1, .inl z'.2.2.2.2.1)) := by rw [wX_arr hz', obE_32 (getO_some hz').2]
  refine jM.of (by decide) rfl (Nat.le_of_ble_eq_true rfl) fun Γ C _ => ?_
  show J κ Γ _ 5 (wX κ G T) 0 0 0 [some (.ref a), some (.int i), some (.ref a'), some (.int j), some (.int n)] []
  refine j_aload_n C dX25_copy_0 rfl rfl ?_
  refine jx_gr25 hκ C hx 0 (by decide) rfl q1471 dX25_copy_1 ?_
  rw [hb]
  refine j_iload_n C dX25_copy_4 rfl rfl ?_
  refine j_aload_n C dX25_copy_5 rfl rfl ?_
  refine jx_castY hκ C q1560 hx' (by decide) rfl rfl (Or.inr rfl) dX25_copy_6 ?_
  refine jx_gr25 hκ C hx' 0 (by decide) rfl q1471 dX25_copy_9 ?_
  rw [hb']
  refine j_iload_n C dX25_copy_12 rfl rfl ?_
  refine j_iload C dX25_copy_13 rfl ?_
  refine j_copyi C (100 + b) (100 + b') 0 q1561 q1551 q1550 q156 he he' (hκ.ty 0 rfl) rfl hok (fun q hq => rfl) (Nat.le_of_ble_eq_true rfl) (Nat.le_of_ble_eq_true rfl) dX25_copy_15 ?_
  have e : jset (wX κ G T) (100 + b') (b', obE κ G (cpyI z z' i.toNatClampNeg j.toNatClampNeg n.toNatClampNeg)) = _ := wX_sO κ G T b' (cpyI z z' i.toNatClampNeg j.toNatClampNeg n.toNatClampNeg)
  rw [obE_32 (z := cpyI z z' i.toNatClampNeg j.toNatClampNeg n.toNatClampNeg) (getO_some hz').2] at e
  refine j_world e ?_
  exact j_vret C dX25_copy_18 (Nat.zero_le _) (Nat.zero_le _) ⟨rfl, rfl⟩
theorem mt_r_copyC25 {κ : jK} (hκ : jX κ) (G : Nat → Nat) {T : XS} {a b a' : Nat} {z x' : XO} {i j n : Int32} (h : rowZ T a 25 = some (b, z)) (hx' : T.2.2.2 a' = some x') (hbad : x'.1 ∈ [23, 24, 26, 27]) : jXM κ yX25_copy (ws_ yX25_copy cX25_copy 5 none) 220 3 1000 [.ref a, .int i, .ref a', .int j, .int n] (wX κ G T) (fun _ _ => False) "java/lang/ClassCastException" := by
  obtain ⟨x, hx, hb, hz⟩ := rowZ_some h
  obtain ⟨t1, t2, t3, t4, t5⟩ := jBadB_ok (List.all_eq_true.mp (show [23, 24, 26, 27].all (jBadB "NineKeysRound$IntRow") = true by decide +kernel) _ hbad)
  obtain ⟨vc, hvc, hcn⟩ := jCn_some t2
  refine jXM.ofB (by decide) rfl (Nat.le_of_ble_eq_true rfl) fun p e s m args below meth c A ls C hnm hno hP hD hl => ?_
  have hl : jL ls 5 [some (.ref a), some (.int i), some (.ref a'), some (.int j), some (.int n)] := hl
  have C0 := C
  obtain ⟨hx9, hb9, hml, hown, hts, hA, hK, hX9, -⟩ := C
  refine lv_aload_n hx9 hb9 dX25_copy_0 rfl (hl.at (i := 0) rfl) ?_
  refine va_get (T := TX25) hx9 hb9 hts in_X25 hown hK (jP1 hP (wX_obt hx (by decide))) 0 rfl (hκ.cl rfl) 0 (by decide) (hts _ q1471) (fun _ h => h) (fsO_r hx (by decide) rfl) dX25_copy_1 ?_
  rw [hb]
  refine lv_iload_n hx9 hb9 dX25_copy_4 rfl (hl.at (i := 1) rfl) ?_
  refine lv_aload_n hx9 hb9 dX25_copy_5 rfl (hl.at (i := 2) rfl) ?_
  obtain ⟨q', h1, cell, g1, g2, g3, -⟩ := hP (100 + a') _ (wX_obt (getO_eq hx' rfl) t1)
  have e2 : q' = vc := Option.some.inj (h1.symm.trans (hκ.cl hvc))
  refine W_castNo hx9 hb9 (C := jCn x'.1) hown (hts _ q1560) g1 (by rw [g3]; rfl) (by rw [g2, ← hcn, ← e2]; exact (hK.1 _ q' h1).2.1) ((hκ.2 s hX9).2.2.1 _ t3) (hκ.2 s hX9).2.1 t4 t5 dX25_copy_6 (fun tx u1 u2 => ?_)
  exact j_out hκ C0 hno hP hD va_S.rf hl (names := ["java/lang/RuntimeException", "java/lang/Exception"]) (nb := 990) (by decide) (by decide) rfl rfl jLCCE_pl jLCCE_g jLCCE_o u1 u2 (by decide) (by decide) (by decide) (Nat.le_of_ble_eq_true rfl) (by decide) (by decide)
theorem mt_r_copyA25 {κ : jK} (hκ : jX κ) (G : Nat → Nat) {T : XS} {a b a' b' : Nat} {z z' : XO} {i j n : Int32} (h : rowZ T a 25 = some (b, z)) (h' : rowZ T a' 25 = some (b', z')) (hbad : cpBad z.2.2.2.1 z'.2.2.2.1 i j n) (h31 : z.2.2.2.1 < 2 ^ 31 ∧ z'.2.2.2.1 < 2 ^ 31) : jXM κ yX25_copy (ws_ yX25_copy cX25_copy 5 none) 220 3 1000 [.ref a, .int i, .ref a', .int j, .int n] (wX κ G T) (fun _ _ => False) "java/lang/ArrayIndexOutOfBoundsException" := by
  obtain ⟨x, hx, hb, hz⟩ := rowZ_some h
  obtain ⟨x', hx', hb', hz'⟩ := rowZ_some h'
  have he : wX κ G T (100 + b) = some (b, .inl (jt κ 0, z.2.2.2.1, .inl z.2.2.2.2.1)) := by rw [wX_arr hz, obE_32 (getO_some hz).2]
  have he' : wX κ G T (100 + b') = some (b', .inl (jt κ 0, z'.2.2.2.1, .inl z'.2.2.2.2.1)) := by rw [wX_arr hz', obE_32 (getO_some hz').2]
  refine jXM.ofB (by decide) rfl (Nat.le_of_ble_eq_true rfl) fun p e s m args below meth c A ls C hnm hno hP hD hl => ?_
  have hl : jL ls 5 [some (.ref a), some (.int i), some (.ref a'), some (.int j), some (.int n)] := hl
  have C0 := C
  obtain ⟨hx9, hb9, hml, hown, hts, hA, hK, hX9, -⟩ := C
  refine lv_aload_n hx9 hb9 dX25_copy_0 rfl (hl.at (i := 0) rfl) ?_
  refine va_get (T := TX25) hx9 hb9 hts in_X25 hown hK (jP1 hP (wX_obt hx (by decide))) 0 rfl (hκ.cl rfl) 0 (by decide) (hts _ q1471) (fun _ h => h) (fsO_r hx (by decide) rfl) dX25_copy_1 ?_
  rw [hb]
  refine lv_iload_n hx9 hb9 dX25_copy_4 rfl (hl.at (i := 1) rfl) ?_
  refine lv_aload_n hx9 hb9 dX25_copy_5 rfl (hl.at (i := 2) rfl) ?_
  obtain ⟨q', h1, cell, g1, g2, g3, -⟩ := hP (100 + a') _ (wX_obt hx' (by decide))
  have e2 : q'.1 = "NineKeysRound$IntRow" := by
    have e3 := Option.some.inj (h1.symm.trans (hκ.cl rfl))
    rw [e3]; rfl
  have e4 := (hK.1 _ q' h1).2
  rw [e2] at e4
  refine va_castS hx9 hb9 hown (hts _ q1560) e4 ⟨cell, g1, by rw [g3]; rfl, by rw [g2, ← e2]; exact (hK.1 _ q' h1).2.1⟩ dX25_copy_6 ?_
  refine va_get (T := TX25) hx9 hb9 hts in_X25 hown hK (jP1 hP (wX_obt hx' (by decide))) 0 rfl (hκ.cl rfl) 0 (by decide) (hts _ q1471) (fun _ h => h) (fsO_r hx' (by decide) rfl) dX25_copy_9 ?_
  rw [hb']
  refine lv_iload_n hx9 hb9 dX25_copy_12 rfl (hl.at (i := 3) rfl) ?_
  refine lv_iload hx9 hb9 dX25_copy_13 (hl.at (i := 4) rfl) ?_
  exact j_copyOut hκ C0 hno hP hD va_S.rf hl (t0 := 0) q1561 q1551 q1550 q156 (hP _ _ he) (hP _ _ he') ⟨rfl, rfl, arrV_size ..⟩ ⟨rfl, rfl, arrV_size ..⟩ (hκ.ty 0 rfl) hbad h31 (by decide) (by decide) (by decide) (by decide) dX25_copy_15
theorem mt_r_copy26 {κ : jK} (hκ : jX κ) (G : Nat → Nat) {T : XS} {a b a' b' : Nat} {z z' : XO} {i j n : Int32} (h : rowZ T a 26 = some (b, z)) (h' : rowZ T a' 26 = some (b', z')) (hok : ¬ cpBad z.2.2.2.1 z'.2.2.2.1 i j n) : jM κ yX26_copy (ws_ yX26_copy cX26_copy 5 none) 8 0 0 [.ref a, .int i, .ref a', .int j, .int n] (wX κ G T) (fun u w' => u = none ∧ w' = wX κ G (xO T b' (cpyL z z' i.toNatClampNeg j.toNatClampNeg n.toNatClampNeg))) := by
  obtain ⟨x, hx, hb, hz⟩ := rowZ_some h
  obtain ⟨x', hx', hb', hz'⟩ := rowZ_some h'
  have he : wX κ G T (100 + b) = some (b, .inl (jt κ 1, z.2.2.2.1, .inr (.inl z.2.2.2.2.2))) := by rw [wX_arr hz, obE_33 (getO_some hz).2]
  have he' : wX κ G T (100 + b') = some (b', .inl (jt κ 1, z'.2.2.2.1, .inr (.inl z'.2.2.2.2.2))) := by rw [wX_arr hz', obE_33 (getO_some hz').2]
  refine jM.of (by decide) rfl (Nat.le_of_ble_eq_true rfl) fun Γ C _ => ?_
  show J κ Γ _ 5 (wX κ G T) 0 0 0 [some (.ref a), some (.int i), some (.ref a'), some (.int j), some (.int n)] []
  refine j_aload_n C dX26_copy_0 rfl rfl ?_
  refine jx_gr26 hκ C hx 0 (by decide) rfl q1481 dX26_copy_1 ?_
  rw [hb]
  refine j_iload_n C dX26_copy_4 rfl rfl ?_
  refine j_aload_n C dX26_copy_5 rfl rfl ?_
  refine jx_castY hκ C q1565 hx' (by decide) rfl rfl (Or.inr rfl) dX26_copy_6 ?_
  refine jx_gr26 hκ C hx' 0 (by decide) rfl q1481 dX26_copy_9 ?_
  rw [hb']
  refine j_iload_n C dX26_copy_12 rfl rfl ?_
  refine j_iload C dX26_copy_13 rfl ?_
  refine j_copyl C (100 + b) (100 + b') 1 q1566 q1551 q1550 q156 he he' (hκ.ty 1 rfl) hok (Nat.le_of_ble_eq_true rfl) (Nat.le_of_ble_eq_true rfl) dX26_copy_15 ?_
  have e : jset (wX κ G T) (100 + b') (b', obE κ G (cpyL z z' i.toNatClampNeg j.toNatClampNeg n.toNatClampNeg)) = _ := wX_sO κ G T b' (cpyL z z' i.toNatClampNeg j.toNatClampNeg n.toNatClampNeg)
  rw [obE_33 (z := cpyL z z' i.toNatClampNeg j.toNatClampNeg n.toNatClampNeg) (getO_some hz').2] at e
  refine j_world e ?_
  exact j_vret C dX26_copy_18 (Nat.zero_le _) (Nat.zero_le _) ⟨rfl, rfl⟩
theorem mt_r_copyC26 {κ : jK} (hκ : jX κ) (G : Nat → Nat) {T : XS} {a b a' : Nat} {z x' : XO} {i j n : Int32} (h : rowZ T a 26 = some (b, z)) (hx' : T.2.2.2 a' = some x') (hbad : x'.1 ∈ [23, 24, 25, 27]) : jXM κ yX26_copy (ws_ yX26_copy cX26_copy 5 none) 220 3 1000 [.ref a, .int i, .ref a', .int j, .int n] (wX κ G T) (fun _ _ => False) "java/lang/ClassCastException" := by
  obtain ⟨x, hx, hb, hz⟩ := rowZ_some h
  obtain ⟨t1, t2, t3, t4, t5⟩ := jBadB_ok (List.all_eq_true.mp (show [23, 24, 25, 27].all (jBadB "NineKeysRound$LongRow") = true by decide +kernel) _ hbad)
  obtain ⟨vc, hvc, hcn⟩ := jCn_some t2
  refine jXM.ofB (by decide) rfl (Nat.le_of_ble_eq_true rfl) fun p e s m args below meth c A ls C hnm hno hP hD hl => ?_
  have hl : jL ls 5 [some (.ref a), some (.int i), some (.ref a'), some (.int j), some (.int n)] := hl
  have C0 := C
  obtain ⟨hx9, hb9, hml, hown, hts, hA, hK, hX9, -⟩ := C
  refine lv_aload_n hx9 hb9 dX26_copy_0 rfl (hl.at (i := 0) rfl) ?_
  refine va_get (T := TX26) hx9 hb9 hts in_X26 hown hK (jP1 hP (wX_obt hx (by decide))) 0 rfl (hκ.cl rfl) 0 (by decide) (hts _ q1481) (fun _ h => h) (fsO_r hx (by decide) rfl) dX26_copy_1 ?_
  rw [hb]
  refine lv_iload_n hx9 hb9 dX26_copy_4 rfl (hl.at (i := 1) rfl) ?_
  refine lv_aload_n hx9 hb9 dX26_copy_5 rfl (hl.at (i := 2) rfl) ?_
  obtain ⟨q', h1, cell, g1, g2, g3, -⟩ := hP (100 + a') _ (wX_obt (getO_eq hx' rfl) t1)
  have e2 : q' = vc := Option.some.inj (h1.symm.trans (hκ.cl hvc))
  refine W_castNo hx9 hb9 (C := jCn x'.1) hown (hts _ q1565) g1 (by rw [g3]; rfl) (by rw [g2, ← hcn, ← e2]; exact (hK.1 _ q' h1).2.1) ((hκ.2 s hX9).2.2.1 _ t3) (hκ.2 s hX9).2.1 t4 t5 dX26_copy_6 (fun tx u1 u2 => ?_)
  exact j_out hκ C0 hno hP hD va_S.rf hl (names := ["java/lang/RuntimeException", "java/lang/Exception"]) (nb := 990) (by decide) (by decide) rfl rfl jLCCE_pl jLCCE_g jLCCE_o u1 u2 (by decide) (by decide) (by decide) (Nat.le_of_ble_eq_true rfl) (by decide) (by decide)
theorem mt_r_copyA26 {κ : jK} (hκ : jX κ) (G : Nat → Nat) {T : XS} {a b a' b' : Nat} {z z' : XO} {i j n : Int32} (h : rowZ T a 26 = some (b, z)) (h' : rowZ T a' 26 = some (b', z')) (hbad : cpBad z.2.2.2.1 z'.2.2.2.1 i j n) (h31 : z.2.2.2.1 < 2 ^ 31 ∧ z'.2.2.2.1 < 2 ^ 31) : jXM κ yX26_copy (ws_ yX26_copy cX26_copy 5 none) 220 3 1000 [.ref a, .int i, .ref a', .int j, .int n] (wX κ G T) (fun _ _ => False) "java/lang/ArrayIndexOutOfBoundsException" := by
  obtain ⟨x, hx, hb, hz⟩ := rowZ_some h
  obtain ⟨x', hx', hb', hz'⟩ := rowZ_some h'
  have he : wX κ G T (100 + b) = some (b, .inl (jt κ 1, z.2.2.2.1, .inr (.inl z.2.2.2.2.2))) := by rw [wX_arr hz, obE_33 (getO_some hz).2]
  have he' : wX κ G T (100 + b') = some (b', .inl (jt κ 1, z'.2.2.2.1, .inr (.inl z'.2.2.2.2.2))) := by rw [wX_arr hz', obE_33 (getO_some hz').2]
  refine jXM.ofB (by decide) rfl (Nat.le_of_ble_eq_true rfl) fun p e s m args below meth c A ls C hnm hno hP hD hl => ?_
  have hl : jL ls 5 [some (.ref a), some (.int i), some (.ref a'), some (.int j), some (.int n)] := hl
  have C0 := C
  obtain ⟨hx9, hb9, hml, hown, hts, hA, hK, hX9, -⟩ := C
  refine lv_aload_n hx9 hb9 dX26_copy_0 rfl (hl.at (i := 0) rfl) ?_
  refine va_get (T := TX26) hx9 hb9 hts in_X26 hown hK (jP1 hP (wX_obt hx (by decide))) 0 rfl (hκ.cl rfl) 0 (by decide) (hts _ q1481) (fun _ h => h) (fsO_r hx (by decide) rfl) dX26_copy_1 ?_
  rw [hb]
  refine lv_iload_n hx9 hb9 dX26_copy_4 rfl (hl.at (i := 1) rfl) ?_
  refine lv_aload_n hx9 hb9 dX26_copy_5 rfl (hl.at (i := 2) rfl) ?_
  obtain ⟨q', h1, cell, g1, g2, g3, -⟩ := hP (100 + a') _ (wX_obt hx' (by decide))
  have e2 : q'.1 = "NineKeysRound$LongRow" := by
    have e3 := Option.some.inj (h1.symm.trans (hκ.cl rfl))
    rw [e3]; rfl
  have e4 := (hK.1 _ q' h1).2
  rw [e2] at e4
  refine va_castS hx9 hb9 hown (hts _ q1565) e4 ⟨cell, g1, by rw [g3]; rfl, by rw [g2, ← e2]; exact (hK.1 _ q' h1).2.1⟩ dX26_copy_6 ?_
  refine va_get (T := TX26) hx9 hb9 hts in_X26 hown hK (jP1 hP (wX_obt hx' (by decide))) 0 rfl (hκ.cl rfl) 0 (by decide) (hts _ q1481) (fun _ h => h) (fsO_r hx' (by decide) rfl) dX26_copy_9 ?_
  rw [hb']
  refine lv_iload_n hx9 hb9 dX26_copy_12 rfl (hl.at (i := 3) rfl) ?_
  refine lv_iload hx9 hb9 dX26_copy_13 (hl.at (i := 4) rfl) ?_
  exact j_copyOut hκ C0 hno hP hD va_S.rf hl (t0 := 1) q1566 q1551 q1550 q156 (hP _ _ he) (hP _ _ he') ⟨rfl, rfl, arrV_size ..⟩ ⟨rfl, rfl, arrV_size ..⟩ (hκ.ty 1 rfl) hbad h31 (by decide) (by decide) (by decide) (by decide) dX26_copy_15
theorem mt_r_copy27 {κ : jK} (hκ : jX κ) (G : Nat → Nat) {T : XS} {a b a' b' : Nat} {z z' : XO} {i j n : Int32} (h : rowZ T a 27 = some (b, z)) (h' : rowZ T a' 27 = some (b', z')) (hok : ¬ cpBad z.2.2.2.1 z'.2.2.2.1 i j n) : jM κ yX27_copy (ws_ yX27_copy cX27_copy 5 none) 8 0 0 [.ref a, .int i, .ref a', .int j, .int n] (wX κ G T) (fun u w' => u = none ∧ w' = wX κ G (xO T b' (cpyI z z' i.toNatClampNeg j.toNatClampNeg n.toNatClampNeg))) := by
  obtain ⟨x, hx, hb, hz⟩ := rowZ_some h
  obtain ⟨x', hx', hb', hz'⟩ := rowZ_some h'
  have he : wX κ G T (100 + b) = some (b, .inl (jt κ 2, z.2.2.2.1, .inl z.2.2.2.2.1)) := by rw [wX_arr hz, obE_34 (getO_some hz).2]
  have he' : wX κ G T (100 + b') = some (b', .inl (jt κ 2, z'.2.2.2.1, .inl z'.2.2.2.2.1)) := by rw [wX_arr hz', obE_34 (getO_some hz').2]
  refine jM.of (by decide) rfl (Nat.le_of_ble_eq_true rfl) fun Γ C _ => ?_
  show J κ Γ _ 5 (wX κ G T) 0 0 0 [some (.ref a), some (.int i), some (.ref a'), some (.int j), some (.int n)] []
  refine j_aload_n C dX27_copy_0 rfl rfl ?_
  refine jx_gr27 hκ C hx 0 (by decide) rfl q1492 dX27_copy_1 ?_
  rw [hb]
  refine j_iload_n C dX27_copy_4 rfl rfl ?_
  refine j_aload_n C dX27_copy_5 rfl rfl ?_
  refine jx_castY hκ C q1548 hx' (by decide) rfl rfl (Or.inr rfl) dX27_copy_6 ?_
  refine jx_gr27 hκ C hx' 0 (by decide) rfl q1492 dX27_copy_9 ?_
  rw [hb']
  refine j_iload_n C dX27_copy_12 rfl rfl ?_
  refine j_iload C dX27_copy_13 rfl ?_
  refine j_copyi C (100 + b) (100 + b') 2 q1549 q1551 q1550 q156 he he' (hκ.ty 2 rfl) rfl hok (fun q hq => rowZ_fit h q hq) (Nat.le_of_ble_eq_true rfl) (Nat.le_of_ble_eq_true rfl) dX27_copy_15 ?_
  have e : jset (wX κ G T) (100 + b') (b', obE κ G (cpyI z z' i.toNatClampNeg j.toNatClampNeg n.toNatClampNeg)) = _ := wX_sO κ G T b' (cpyI z z' i.toNatClampNeg j.toNatClampNeg n.toNatClampNeg)
  rw [obE_34 (z := cpyI z z' i.toNatClampNeg j.toNatClampNeg n.toNatClampNeg) (getO_some hz').2] at e
  refine j_world e ?_
  exact j_vret C dX27_copy_18 (Nat.zero_le _) (Nat.zero_le _) ⟨rfl, rfl⟩
theorem mt_r_copyC27 {κ : jK} (hκ : jX κ) (G : Nat → Nat) {T : XS} {a b a' : Nat} {z x' : XO} {i j n : Int32} (h : rowZ T a 27 = some (b, z)) (hx' : T.2.2.2 a' = some x') (hbad : x'.1 ∈ [23, 24, 25, 26]) : jXM κ yX27_copy (ws_ yX27_copy cX27_copy 5 none) 220 3 1000 [.ref a, .int i, .ref a', .int j, .int n] (wX κ G T) (fun _ _ => False) "java/lang/ClassCastException" := by
  obtain ⟨x, hx, hb, hz⟩ := rowZ_some h
  obtain ⟨t1, t2, t3, t4, t5⟩ := jBadB_ok (List.all_eq_true.mp (show [23, 24, 25, 26].all (jBadB "NineKeysRound$BooleanRow") = true by decide +kernel) _ hbad)
  obtain ⟨vc, hvc, hcn⟩ := jCn_some t2
  refine jXM.ofB (by decide) rfl (Nat.le_of_ble_eq_true rfl) fun p e s m args below meth c A ls C hnm hno hP hD hl => ?_
  have hl : jL ls 5 [some (.ref a), some (.int i), some (.ref a'), some (.int j), some (.int n)] := hl
  have C0 := C
  obtain ⟨hx9, hb9, hml, hown, hts, hA, hK, hX9, -⟩ := C
  refine lv_aload_n hx9 hb9 dX27_copy_0 rfl (hl.at (i := 0) rfl) ?_
  refine va_get (T := TX27) hx9 hb9 hts in_X27 hown hK (jP1 hP (wX_obt hx (by decide))) 0 rfl (hκ.cl rfl) 0 (by decide) (hts _ q1492) (fun _ h => h) (fsO_r hx (by decide) rfl) dX27_copy_1 ?_
  rw [hb]
  refine lv_iload_n hx9 hb9 dX27_copy_4 rfl (hl.at (i := 1) rfl) ?_
  refine lv_aload_n hx9 hb9 dX27_copy_5 rfl (hl.at (i := 2) rfl) ?_
  obtain ⟨q', h1, cell, g1, g2, g3, -⟩ := hP (100 + a') _ (wX_obt (getO_eq hx' rfl) t1)
  have e2 : q' = vc := Option.some.inj (h1.symm.trans (hκ.cl hvc))
  refine W_castNo hx9 hb9 (C := jCn x'.1) hown (hts _ q1548) g1 (by rw [g3]; rfl) (by rw [g2, ← hcn, ← e2]; exact (hK.1 _ q' h1).2.1) ((hκ.2 s hX9).2.2.1 _ t3) (hκ.2 s hX9).2.1 t4 t5 dX27_copy_6 (fun tx u1 u2 => ?_)
  exact j_out hκ C0 hno hP hD va_S.rf hl (names := ["java/lang/RuntimeException", "java/lang/Exception"]) (nb := 990) (by decide) (by decide) rfl rfl jLCCE_pl jLCCE_g jLCCE_o u1 u2 (by decide) (by decide) (by decide) (Nat.le_of_ble_eq_true rfl) (by decide) (by decide)
theorem mt_r_copyA27 {κ : jK} (hκ : jX κ) (G : Nat → Nat) {T : XS} {a b a' b' : Nat} {z z' : XO} {i j n : Int32} (h : rowZ T a 27 = some (b, z)) (h' : rowZ T a' 27 = some (b', z')) (hbad : cpBad z.2.2.2.1 z'.2.2.2.1 i j n) (h31 : z.2.2.2.1 < 2 ^ 31 ∧ z'.2.2.2.1 < 2 ^ 31) : jXM κ yX27_copy (ws_ yX27_copy cX27_copy 5 none) 220 3 1000 [.ref a, .int i, .ref a', .int j, .int n] (wX κ G T) (fun _ _ => False) "java/lang/ArrayIndexOutOfBoundsException" := by
  obtain ⟨x, hx, hb, hz⟩ := rowZ_some h
  obtain ⟨x', hx', hb', hz'⟩ := rowZ_some h'
  have he : wX κ G T (100 + b) = some (b, .inl (jt κ 2, z.2.2.2.1, .inl z.2.2.2.2.1)) := by rw [wX_arr hz, obE_34 (getO_some hz).2]
  have he' : wX κ G T (100 + b') = some (b', .inl (jt κ 2, z'.2.2.2.1, .inl z'.2.2.2.2.1)) := by rw [wX_arr hz', obE_34 (getO_some hz').2]
  refine jXM.ofB (by decide) rfl (Nat.le_of_ble_eq_true rfl) fun p e s m args below meth c A ls C hnm hno hP hD hl => ?_
  have hl : jL ls 5 [some (.ref a), some (.int i), some (.ref a'), some (.int j), some (.int n)] := hl
  have C0 := C
  obtain ⟨hx9, hb9, hml, hown, hts, hA, hK, hX9, -⟩ := C
  refine lv_aload_n hx9 hb9 dX27_copy_0 rfl (hl.at (i := 0) rfl) ?_
  refine va_get (T := TX27) hx9 hb9 hts in_X27 hown hK (jP1 hP (wX_obt hx (by decide))) 0 rfl (hκ.cl rfl) 0 (by decide) (hts _ q1492) (fun _ h => h) (fsO_r hx (by decide) rfl) dX27_copy_1 ?_
  rw [hb]
  refine lv_iload_n hx9 hb9 dX27_copy_4 rfl (hl.at (i := 1) rfl) ?_
  refine lv_aload_n hx9 hb9 dX27_copy_5 rfl (hl.at (i := 2) rfl) ?_
  obtain ⟨q', h1, cell, g1, g2, g3, -⟩ := hP (100 + a') _ (wX_obt hx' (by decide))
  have e2 : q'.1 = "NineKeysRound$BooleanRow" := by
    have e3 := Option.some.inj (h1.symm.trans (hκ.cl rfl))
    rw [e3]; rfl
  have e4 := (hK.1 _ q' h1).2
  rw [e2] at e4
  refine va_castS hx9 hb9 hown (hts _ q1548) e4 ⟨cell, g1, by rw [g3]; rfl, by rw [g2, ← e2]; exact (hK.1 _ q' h1).2.1⟩ dX27_copy_6 ?_
  refine va_get (T := TX27) hx9 hb9 hts in_X27 hown hK (jP1 hP (wX_obt hx' (by decide))) 0 rfl (hκ.cl rfl) 0 (by decide) (hts _ q1492) (fun _ h => h) (fsO_r hx' (by decide) rfl) dX27_copy_9 ?_
  rw [hb']
  refine lv_iload_n hx9 hb9 dX27_copy_12 rfl (hl.at (i := 3) rfl) ?_
  refine lv_iload hx9 hb9 dX27_copy_13 (hl.at (i := 4) rfl) ?_
  exact j_copyOut hκ C0 hno hP hD va_S.rf hl (t0 := 2) q1549 q1551 q1550 q156 (hP _ _ he) (hP _ _ he') ⟨rfl, rfl, arrV_size ..⟩ ⟨rfl, rfl, arrV_size ..⟩ (hκ.ty 2 rfl) hbad h31 (by decide) (by decide) (by decide) (by decide) dX27_copy_15
