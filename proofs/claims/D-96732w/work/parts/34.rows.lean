/-! ROWS: the small methods of the five kinds of row. Own text, printed by rows.py. -/
set_option maxRecDepth 100000
/-- what an array of a kind may hold -/
def fitE (t : Nat) (v : Int32) : Bool := if t = 23 then fits .byte (.int v) else if t = 24 then fits .short (.int v) else if t = 27 then fits .boolean (.int v) else true
def rowZ (S : XS) (a t : Nat) : Option (Nat × XO) := (getO S a t).bind fun x => (x.2.2.1 0).bind fun b => (getO S b (t + 7)).bind fun z => if (∀ j, j < z.2.2.2.1 → fitE t (z.2.2.2.2.1 j) = true) then some (b, z) else none
theorem rowZ_some {S : XS} {a t b : Nat} {z : XO} (h : rowZ S a t = some (b, z)) : ∃ x : XO, getO S a t = some x ∧ x.2.2.1 0 = some b ∧ getO S b (t + 7) = some z := by
  unfold rowZ at h
  obtain ⟨x, h1, h⟩ := ob h
  obtain ⟨b', h2, h⟩ := ob h
  obtain ⟨z', h3, h⟩ := ob h
  by_cases hf : ∀ j, j < z'.2.2.2.1 → fitE t (z'.2.2.2.2.1 j) = true
  · rw [if_pos hf] at h
    cases h
    exact ⟨x, h1, h2, h3⟩
  · rw [if_neg hf] at h; cases h
theorem rowZ_fit {S : XS} {a t b : Nat} {z : XO} (h : rowZ S a t = some (b, z)) : ∀ j, j < z.2.2.2.1 → fitE t (z.2.2.2.2.1 j) = true := by
  unfold rowZ at h
  obtain ⟨x, h1, h⟩ := ob h
  obtain ⟨b', h2, h⟩ := ob h
  obtain ⟨z', h3, h⟩ := ob h
  by_cases hf : ∀ j, j < z'.2.2.2.1 → fitE t (z'.2.2.2.2.1 j) = true
  · rw [if_pos hf] at h
    cases h
    exact hf
  · rw [if_neg hf] at h; cases h
def zI (z : XO) (j : Nat) (v : Int32) : XO := (z.1, z.2.1, z.2.2.1, z.2.2.2.1, upd z.2.2.2.2.1 j v, z.2.2.2.2.2)
def zL (z : XO) (j : Nat) (v : Int64) : XO := (z.1, z.2.1, z.2.2.1, z.2.2.2.1, z.2.2.2.2.1, vp_updL z.2.2.2.2.2 j v)
/-- what a row of a kind answers of a place, and how it takes a number -/
def rAt (t : Nat) (z : XO) (j : Nat) : Int64 := if t = 26 then z.2.2.2.2.2 j else if t = 27 then (if z.2.2.2.2.1 j = 0 then 0 else 1) else (z.2.2.2.2.1 j).toInt64
def rPut (t : Nat) (z : XO) (j : Nat) (v : Int64) : XO := if t = 26 then zL z j v else if t = 27 then zI z j (if lg_cmp v 0 = 0 then 0 else 1) else if t = 23 then zI z j v.toInt32.toInt8.toInt32 else if t = 24 then zI z j v.toInt32.toInt16.toInt32 else zI z j v.toInt32
theorem obE_30 {κ : jK} {G : Nat → Nat} {z : XO} (h : z.1 = 30) : obE κ G z = .inl (jt κ 3, z.2.2.2.1, .inl z.2.2.2.2.1) := by unfold obE; rw [h]; rfl
theorem obE_31 {κ : jK} {G : Nat → Nat} {z : XO} (h : z.1 = 31) : obE κ G z = .inl (jt κ 4, z.2.2.2.1, .inl z.2.2.2.2.1) := by unfold obE; rw [h]; rfl
theorem obE_32 {κ : jK} {G : Nat → Nat} {z : XO} (h : z.1 = 32) : obE κ G z = .inl (jt κ 0, z.2.2.2.1, .inl z.2.2.2.2.1) := by unfold obE; rw [h]; rfl
theorem obE_33 {κ : jK} {G : Nat → Nat} {z : XO} (h : z.1 = 33) : obE κ G z = .inl (jt κ 1, z.2.2.2.1, .inr (.inl z.2.2.2.2.2)) := by unfold obE; rw [h]; rfl
theorem obE_34 {κ : jK} {G : Nat → Nat} {z : XO} (h : z.1 = 34) : obE κ G z = .inl (jt κ 2, z.2.2.2.1, .inl z.2.2.2.2.1) := by unfold obE; rw [h]; rfl
theorem wX_arr {κ : jK} {G : Nat → Nat} {S : XS} {b t : Nat} {z : XO} (h : getO S b t = some z) : wX κ G S (100 + b) = some (b, obE κ G z) := wX_ob κ G S (getO_some h).1
/-- a contract of what a method throws, always -/
theorem jXM.ofB {κ : jK} {y : MethodName} {cc : ByteArray} {nL f mc ms : Nat} {own : String} {ret : Option FieldType} {av : List Value} {w : jW} {post : Option Value → jW → Prop} {E : String} (hy : plainName y.cls = true) (ho : y.cls = own) (hlen : (lg_sl av).length ≤ nL)
    (body : ∀ (p : Program) (e : Env) (s : State) (m : MethodId) (args : Array Value) (below : List Frame) (meth : Method) (c : Code) (A : Nat → Prop) (ls : Array Slot), jC κ (p, e, s, m, args, below, meth, c, A) cc nL own ret → jnm (p, e, s, m, args, below, meth, c, A) y.name → (∀ x ∈ c.exceptionTable.toList, False) → jP κ.2.1 κ.2.2.1 w s.heap → jD A w → jL ls nL (jent av nL) → W p κ.1 e (jR f mc ms) s m args below meth c s.heap [] 0 0 (vx_MQ below (jQ κ post A) (jXC κ w E A) args s mc ms A) (F0 m 0 ls [])) : jXM κ y (ws_ y cc nL ret) f mc ms av w post E := by
  subst ho
  intro sz
  refine vx_ofW (cc := cc) (maxL := nL) (ret := ret) hy rfl ?_
  intro p e s m args below meth c s₁ B hml htab hv
  obtain ⟨rfl, hsz, hP, hK, hD0, hX, hc1, hc2, hZ⟩ := hv
  have hts0 := atoms_spec (ws := ws_ y cc nL ret) B.pre
  have hts : ∀ w ∈ lw_all, w.before _ s = true := fun w h => hts0 w (List.mem_cons_of_mem _ h)
  have hown : s.vm.findClass y.cls = some m.cls := findClass_of_methodNamed B.named
  have hin : meth.name = y.name := (name_of_methodNamed B.named B.method).1
  subst hsz
  have hl := lv_entry av (n := nL) hlen
  rw [lg_entry_eq]
  generalize (lg_sl av ++ List.replicate (nL - (lg_sl av).length) Slot.unset).toArray = ls at hl ⊢
  have hl' : jL ls nL (jent av nL) := ⟨hl.1, hl.2.1, fun i v h => hl.2.2 (i, v) (by simpa using jent_in av nL 0 i v h)⟩
  refine body p e s m av.toArray below meth c (jA w s.heap.size) ls ⟨B.exec, B.bytes, hml, hown, hts, fun q h => Or.inr h, hK, hX, hc1, ?_, hZ, B.notSynchronized, B.returns⟩ hin htab hP hD0.self hl'
  rintro r q hq (⟨r', e', h⟩ | h)
  · exact hc2 r r' q (q.1, e') hq h rfl
  · exact absurd (hc1 r q hq).lt (by omega)
section OUT
variable {κ : jK} {p : Program} {e : Env} {s : State} {m : MethodId} {args : Array Value} {below : List Frame} {meth : Method} {c : Code} {A : Nat → Prop} {cc : ByteArray} {nL : Nat} {own : String} {ret : Option FieldType} {H : Heap} {locs : List Loc} {ls : Array Slot} {w : jW} {L : List (Option Value)} {f mc ms k n pc : Nat} {rest : List Value} {post : Option Value → jW → Prop}
/-- the machine's exception with a message leaves the method -/
theorem j_out (hκ : jX κ) (C : jC κ (p, e, s, m, args, below, meth, c, A) cc nL own ret) (hno : ∀ x ∈ c.exceptionTable.toList, False) (hP : jP κ.2.1 κ.2.2.1 w H) (hD : jD A w) (hS : va_S A s.heap H locs) (hl : jL ls nL L) {E text : String} {names : List String} {nb : Nat}
    (hcls : Bundle.fit E = true) (hnames : ∀ n ∈ names, Bundle.fit n = true) (hsoe : (E == "java/lang/StackOverflowError") = false) (hoom : (E == "java/lang/OutOfMemoryError") = false) {ps : List Nat} (hpl : vx_atM E names = ps.filterMap (fun i => lw_tbl[i]?)) (hg : (vx_atM E names).all (fun w => goodWord w || nestW w) = true) (ho : (vx_atM E names).all vx_ot = true)
    (htext : (text == notModelled) = false) (hnb : (stringBytes (stringToUtf16 text)).size ≤ nb) (hnb1 : nb ≤ 990) (hnl : names.length ≤ 3) (hf : 220 ≤ f) (hsum : (rest.map fun v => v.category).sum ≤ 8) (hk : k + 3 ≤ mc) (hn : n + 1000 ≤ ms) :
    vx_Note p κ.1 e (jR f mc ms) s m args below meth c H locs k n (vx_MQ below (jQ κ post A) (jXC κ w E A) args s mc ms A) (F0 m pc ls rest) E text := by
  obtain ⟨hx', hb, hml, hown, hts, hA, hK, hX, hc1, hc2, hZ, hlocks, hr⟩ := C
  refine vx_vm hx' hκ.1.1.2 (names := names) (nb := nb) (A := A) hcls hnames hsoe hoom (jhat hκ.2 hts hX hpl hg) (jhot ho) hZ.1 hZ.2.1 hS (hl.1.trans hml.symm) htext hnb (by omega) (show names.length + 4 < f by omega) (show _ + 10240 ≤ 48 * f by omega) (by omega) hk (show n + (nb + 10) ≤ ms by omega) hlocks (fun H1 q9 ce hz hq hS1 hce hv hcl => ?_)
  exact vx_out (fun x hx => (hno x hx).elim) hlocks hce hv hcl (fun t ht hW => ⟨rfl, by rw [ht]; exact hP.kept fun r q hr => hq q.1 (hP r q hr).lt, hD, hS1.F ht⟩) hS1.2.2 hk (show n + (nb + 10) ≤ ms by omega)
end OUT

theorem mt_r_at23 {κ : jK} (hκ : jX κ) (G : Nat → Nat) {T : XS} {a b : Nat} {z : XO} {i : Int32} (h : rowZ T a 23 = some (b, z)) (hi : vp_in i z.2.2.2.1) : jM κ yX23_at (ws_ yX23_at cX23_at 2 (some .long)) 0 0 0 [.ref a, .int i] (wX κ G T) (fun u w' => u = some (.long (rAt 23 z i.toNatClampNeg)) ∧ w' = wX κ G T) := by
  obtain ⟨x, hx, hb, hz⟩ := rowZ_some h
  have he : wX κ G T (100 + b) = some (b, .inl (jt κ 3, z.2.2.2.1, .inl z.2.2.2.2.1)) := by rw [wX_arr hz, obE_30 (getO_some hz).2]
  refine jM.of (by decide) rfl (Nat.le_of_ble_eq_true rfl) fun Γ C _ => ?_
  show J κ Γ _ 2 (wX κ G T) 0 0 0 [some (.ref a), some (.int i)] []
  refine j_aload_n C dX23_at_0 rfl rfl ?_
  refine jx_gr23 hκ C hx 0 (by decide) rfl q1451 dX23_at_1 ?_
  rw [hb]
  refine j_iload_n C dX23_at_4 rfl rfl ?_
  refine j_bald C (100 + b) 3 he (hκ.ty 3 rfl) hi dX23_at_5 ?_
  refine j_i2l C dX23_at_6 ?_
  exact j_lret C dX23_at_7 (Nat.zero_le _) (Nat.zero_le _) ⟨rfl, rfl⟩
theorem mt_r_put23 {κ : jK} (hκ : jX κ) (G : Nat → Nat) {T : XS} {a b : Nat} {z : XO} {i : Int32} {v : Int64} (h : rowZ T a 23 = some (b, z)) (hi : vp_in i z.2.2.2.1) : jM κ yX23_put (ws_ yX23_put cX23_put 4 (some .boolean)) 0 0 0 [.ref a, .int i, .long v] (wX κ G T) (fun u w' => u = some (.int 1) ∧ w' = wX κ G (xO T b (rPut 23 z i.toNatClampNeg v))) := by
  obtain ⟨x, hx, hb, hz⟩ := rowZ_some h
  have he : wX κ G T (100 + b) = some (b, .inl (jt κ 3, z.2.2.2.1, .inl z.2.2.2.2.1)) := by rw [wX_arr hz, obE_30 (getO_some hz).2]
  refine jM.of (by decide) rfl (Nat.le_of_ble_eq_true rfl) fun Γ C _ => ?_
  show J κ Γ _ 4 (wX κ G T) 0 0 0 [some (.ref a), some (.int i), some (.long v), none] []
  refine j_aload_n C dX23_put_0 rfl rfl ?_
  refine jx_gr23 hκ C hx 0 (by decide) rfl q1451 dX23_put_1 ?_
  rw [hb]
  refine j_iload_n C dX23_put_4 rfl rfl ?_
  refine j_lload_n C dX23_put_5 rfl rfl ?_
  refine j_l2i C dX23_put_6 ?_
  refine j_i2b C dX23_put_7 ?_
  refine j_bast C (100 + b) 3 he (hκ.ty 3 rfl) hi dX23_put_8 ?_
  rw [pk_vb]
  have e : jset (wX κ G T) (100 + b) (b, obE κ G (zI z i.toNatClampNeg v.toInt32.toInt8.toInt32)) = _ := wX_sO κ G T b (zI z i.toNatClampNeg v.toInt32.toInt8.toInt32)
  rw [obE_30 (z := zI z i.toNatClampNeg v.toInt32.toInt8.toInt32) (getO_some hz).2] at e
  refine j_world e ?_
  refine j_iconst C (v := 1) dX23_put_9 rfl ?_
  exact j_zret C rfl dX23_put_10 (Nat.zero_le _) (Nat.zero_le _) ⟨rfl, rfl⟩
theorem mt_r_atX23 {κ : jK} (hκ : jX κ) (G : Nat → Nat) {T : XS} {a b : Nat} {z : XO} {i : Int32} (h : rowZ T a 23 = some (b, z)) (hi : ¬ vp_in i z.2.2.2.1) (hlen : z.2.2.2.1 < 2 ^ 31) : jXM κ yX23_at (ws_ yX23_at cX23_at 2 (some .long)) 220 3 1000 [.ref a, .int i] (wX κ G T) (fun _ _ => False) "java/lang/ArrayIndexOutOfBoundsException" := by
  obtain ⟨x, hx, hb, hz⟩ := rowZ_some h
  have he : wX κ G T (100 + b) = some (b, .inl (jt κ 3, z.2.2.2.1, .inl z.2.2.2.2.1)) := by rw [wX_arr hz, obE_30 (getO_some hz).2]
  refine jXM.ofB (by decide) rfl (Nat.le_of_ble_eq_true rfl) fun p e s m args below meth c A ls C hnm hno hP hD hl => ?_
  have hl : jL ls 2 [some (.ref a), some (.int i)] := hl
  have C0 := C
  obtain ⟨hx9, hb9, hml, hown, hts, hA, hK, hX9, -⟩ := C
  refine lv_aload_n hx9 hb9 dX23_at_0 rfl (hl.at (i := 0) rfl) ?_
  refine va_get (T := TX23) hx9 hb9 hts in_X23 hown hK (jP1 hP (wX_obt hx (by decide))) 0 rfl (hκ.cl rfl) 0 (by decide) (hts _ q1451) (fun _ h => h) (fsO_r hx (by decide) rfl) dX23_at_1 ?_
  rw [hb]
  refine lv_iload_n hx9 hb9 dX23_at_4 rfl (hl.at (i := 1) rfl) ?_
  refine vx_baldZ hx9 hb9 hK (jP1 hP he) 0 3 rfl (hκ.ty 3 rfl) hi dX23_at_5 (fun tx htx => ?_)
  subst htx
  exact j_out hκ C0 hno hP hD va_S.rf hl (names := ["java/lang/IndexOutOfBoundsException", "java/lang/RuntimeException", "java/lang/Exception"]) (nb := 212) (by decide) (by decide) rfl rfl jLAIO_pl jLAIO_g jLAIO_o (index_text_modelled i _) (index_text_bytes i hlen) (by decide) (by decide) (by decide) (by decide) (by decide) (by decide)
theorem mt_r_putX23 {κ : jK} (hκ : jX κ) (G : Nat → Nat) {T : XS} {a b : Nat} {z : XO} {i : Int32} {v : Int64} (h : rowZ T a 23 = some (b, z)) (hi : ¬ vp_in i z.2.2.2.1) (hlen : z.2.2.2.1 < 2 ^ 31) : jXM κ yX23_put (ws_ yX23_put cX23_put 4 (some .boolean)) 220 3 1000 [.ref a, .int i, .long v] (wX κ G T) (fun _ _ => False) "java/lang/ArrayIndexOutOfBoundsException" := by
  obtain ⟨x, hx, hb, hz⟩ := rowZ_some h
  have he : wX κ G T (100 + b) = some (b, .inl (jt κ 3, z.2.2.2.1, .inl z.2.2.2.2.1)) := by rw [wX_arr hz, obE_30 (getO_some hz).2]
  refine jXM.ofB (by decide) rfl (Nat.le_of_ble_eq_true rfl) fun p e s m args below meth c A ls C hnm hno hP hD hl => ?_
  have hl : jL ls 4 [some (.ref a), some (.int i), some (.long v), none] := hl
  have C0 := C
  obtain ⟨hx9, hb9, hml, hown, hts, hA, hK, hX9, -⟩ := C
  refine lv_aload_n hx9 hb9 dX23_put_0 rfl (hl.at (i := 0) rfl) ?_
  refine va_get (T := TX23) hx9 hb9 hts in_X23 hown hK (jP1 hP (wX_obt hx (by decide))) 0 rfl (hκ.cl rfl) 0 (by decide) (hts _ q1451) (fun _ h => h) (fsO_r hx (by decide) rfl) dX23_put_1 ?_
  rw [hb]
  refine lv_iload_n hx9 hb9 dX23_put_4 rfl (hl.at (i := 1) rfl) ?_
  refine lv_lload_n hx9 hb9 dX23_put_5 rfl (hl.at (i := 2) rfl) ?_
  refine lv_l2i hx9 hb9 dX23_put_6 rfl ?_
  refine lv_i2b hx9 hb9 dX23_put_7 rfl ?_
  refine vx_bastZ hx9 hb9 hK (jP1 hP he) 0 3 rfl (hκ.ty 3 rfl) hi dX23_put_8 (fun tx htx => ?_)
  subst htx
  exact j_out hκ C0 hno hP hD va_S.rf hl (names := ["java/lang/IndexOutOfBoundsException", "java/lang/RuntimeException", "java/lang/Exception"]) (nb := 212) (by decide) (by decide) rfl rfl jLAIO_pl jLAIO_g jLAIO_o (index_text_modelled i _) (index_text_bytes i hlen) (by decide) (by decide) (by decide) (by decide) (by decide) (by decide)
theorem mt_r_size23 {κ : jK} (hκ : jX κ) (G : Nat → Nat) {T : XS} {a b : Nat} {z : XO} (h : rowZ T a 23 = some (b, z)) : jM κ yX23_size (ws_ yX23_size cX23_size 1 (some .int)) 0 0 0 [.ref a] (wX κ G T) (fun u w' => u = some (.int (Int32.ofNat z.2.2.2.1)) ∧ w' = wX κ G T) := by
  obtain ⟨x, hx, hb, hz⟩ := rowZ_some h
  have he : wX κ G T (100 + b) = some (b, .inl (jt κ 3, z.2.2.2.1, .inl z.2.2.2.2.1)) := by rw [wX_arr hz, obE_30 (getO_some hz).2]
  refine jM.of (by decide) rfl (Nat.le_of_ble_eq_true rfl) fun Γ C _ => ?_
  show J κ Γ _ 1 (wX κ G T) 0 0 0 [some (.ref a)] []
  refine j_aload_n C dX23_size_0 rfl rfl ?_
  refine jx_gr23 hκ C hx 0 (by decide) rfl q1451 dX23_size_1 ?_
  rw [hb]
  refine j_alen C (100 + b) 3 he (hκ.ty 3 rfl) rfl dX23_size_4 ?_
  exact j_iret C dX23_size_5 (Nat.zero_le _) (Nat.zero_le _) ⟨rfl, rfl⟩
theorem mt_r_at24 {κ : jK} (hκ : jX κ) (G : Nat → Nat) {T : XS} {a b : Nat} {z : XO} {i : Int32} (h : rowZ T a 24 = some (b, z)) (hi : vp_in i z.2.2.2.1) : jM κ yX24_at (ws_ yX24_at cX24_at 2 (some .long)) 0 0 0 [.ref a, .int i] (wX κ G T) (fun u w' => u = some (.long (rAt 24 z i.toNatClampNeg)) ∧ w' = wX κ G T) := by
  obtain ⟨x, hx, hb, hz⟩ := rowZ_some h
  have he : wX κ G T (100 + b) = some (b, .inl (jt κ 4, z.2.2.2.1, .inl z.2.2.2.2.1)) := by rw [wX_arr hz, obE_31 (getO_some hz).2]
  refine jM.of (by decide) rfl (Nat.le_of_ble_eq_true rfl) fun Γ C _ => ?_
  show J κ Γ _ 2 (wX κ G T) 0 0 0 [some (.ref a), some (.int i)] []
  refine j_aload_n C dX24_at_0 rfl rfl ?_
  refine jx_gr24 hκ C hx 0 (by decide) rfl q1460 dX24_at_1 ?_
  rw [hb]
  refine j_iload_n C dX24_at_4 rfl rfl ?_
  refine j_sald C (100 + b) 4 he (hκ.ty 4 rfl) hi dX24_at_5 ?_
  refine j_i2l C dX24_at_6 ?_
  exact j_lret C dX24_at_7 (Nat.zero_le _) (Nat.zero_le _) ⟨rfl, rfl⟩
theorem mt_r_put24 {κ : jK} (hκ : jX κ) (G : Nat → Nat) {T : XS} {a b : Nat} {z : XO} {i : Int32} {v : Int64} (h : rowZ T a 24 = some (b, z)) (hi : vp_in i z.2.2.2.1) : jM κ yX24_put (ws_ yX24_put cX24_put 4 (some .boolean)) 0 0 0 [.ref a, .int i, .long v] (wX κ G T) (fun u w' => u = some (.int 1) ∧ w' = wX κ G (xO T b (rPut 24 z i.toNatClampNeg v))) := by
  obtain ⟨x, hx, hb, hz⟩ := rowZ_some h
  have he : wX κ G T (100 + b) = some (b, .inl (jt κ 4, z.2.2.2.1, .inl z.2.2.2.2.1)) := by rw [wX_arr hz, obE_31 (getO_some hz).2]
  refine jM.of (by decide) rfl (Nat.le_of_ble_eq_true rfl) fun Γ C _ => ?_
  show J κ Γ _ 4 (wX κ G T) 0 0 0 [some (.ref a), some (.int i), some (.long v), none] []
  refine j_aload_n C dX24_put_0 rfl rfl ?_
  refine jx_gr24 hκ C hx 0 (by decide) rfl q1460 dX24_put_1 ?_
  rw [hb]
  refine j_iload_n C dX24_put_4 rfl rfl ?_
  refine j_lload_n C dX24_put_5 rfl rfl ?_
  refine j_l2i C dX24_put_6 ?_
  refine j_i2s C dX24_put_7 ?_
  refine j_sast C (100 + b) 4 he (hκ.ty 4 rfl) hi dX24_put_8 ?_
  rw [pk_vs]
  have e : jset (wX κ G T) (100 + b) (b, obE κ G (zI z i.toNatClampNeg v.toInt32.toInt16.toInt32)) = _ := wX_sO κ G T b (zI z i.toNatClampNeg v.toInt32.toInt16.toInt32)
  rw [obE_31 (z := zI z i.toNatClampNeg v.toInt32.toInt16.toInt32) (getO_some hz).2] at e
  refine j_world e ?_
  refine j_iconst C (v := 1) dX24_put_9 rfl ?_
  exact j_zret C rfl dX24_put_10 (Nat.zero_le _) (Nat.zero_le _) ⟨rfl, rfl⟩
theorem mt_r_atX24 {κ : jK} (hκ : jX κ) (G : Nat → Nat) {T : XS} {a b : Nat} {z : XO} {i : Int32} (h : rowZ T a 24 = some (b, z)) (hi : ¬ vp_in i z.2.2.2.1) (hlen : z.2.2.2.1 < 2 ^ 31) : jXM κ yX24_at (ws_ yX24_at cX24_at 2 (some .long)) 220 3 1000 [.ref a, .int i] (wX κ G T) (fun _ _ => False) "java/lang/ArrayIndexOutOfBoundsException" := by
  obtain ⟨x, hx, hb, hz⟩ := rowZ_some h
  have he : wX κ G T (100 + b) = some (b, .inl (jt κ 4, z.2.2.2.1, .inl z.2.2.2.2.1)) := by rw [wX_arr hz, obE_31 (getO_some hz).2]
  refine jXM.ofB (by decide) rfl (Nat.le_of_ble_eq_true rfl) fun p e s m args below meth c A ls C hnm hno hP hD hl => ?_
  have hl : jL ls 2 [some (.ref a), some (.int i)] := hl
  have C0 := C
  obtain ⟨hx9, hb9, hml, hown, hts, hA, hK, hX9, -⟩ := C
  refine lv_aload_n hx9 hb9 dX24_at_0 rfl (hl.at (i := 0) rfl) ?_
  refine va_get (T := TX24) hx9 hb9 hts in_X24 hown hK (jP1 hP (wX_obt hx (by decide))) 0 rfl (hκ.cl rfl) 0 (by decide) (hts _ q1460) (fun _ h => h) (fsO_r hx (by decide) rfl) dX24_at_1 ?_
  rw [hb]
  refine lv_iload_n hx9 hb9 dX24_at_4 rfl (hl.at (i := 1) rfl) ?_
  refine vx_saldZ hx9 hb9 hK (jP1 hP he) 0 4 rfl (hκ.ty 4 rfl) hi dX24_at_5 (fun tx htx => ?_)
  subst htx
  exact j_out hκ C0 hno hP hD va_S.rf hl (names := ["java/lang/IndexOutOfBoundsException", "java/lang/RuntimeException", "java/lang/Exception"]) (nb := 212) (by decide) (by decide) rfl rfl jLAIO_pl jLAIO_g jLAIO_o (index_text_modelled i _) (index_text_bytes i hlen) (by decide) (by decide) (by decide) (by decide) (by decide) (by decide)
theorem mt_r_putX24 {κ : jK} (hκ : jX κ) (G : Nat → Nat) {T : XS} {a b : Nat} {z : XO} {i : Int32} {v : Int64} (h : rowZ T a 24 = some (b, z)) (hi : ¬ vp_in i z.2.2.2.1) (hlen : z.2.2.2.1 < 2 ^ 31) : jXM κ yX24_put (ws_ yX24_put cX24_put 4 (some .boolean)) 220 3 1000 [.ref a, .int i, .long v] (wX κ G T) (fun _ _ => False) "java/lang/ArrayIndexOutOfBoundsException" := by
  obtain ⟨x, hx, hb, hz⟩ := rowZ_some h
  have he : wX κ G T (100 + b) = some (b, .inl (jt κ 4, z.2.2.2.1, .inl z.2.2.2.2.1)) := by rw [wX_arr hz, obE_31 (getO_some hz).2]
  refine jXM.ofB (by decide) rfl (Nat.le_of_ble_eq_true rfl) fun p e s m args below meth c A ls C hnm hno hP hD hl => ?_
  have hl : jL ls 4 [some (.ref a), some (.int i), some (.long v), none] := hl
  have C0 := C
  obtain ⟨hx9, hb9, hml, hown, hts, hA, hK, hX9, -⟩ := C
  refine lv_aload_n hx9 hb9 dX24_put_0 rfl (hl.at (i := 0) rfl) ?_
  refine va_get (T := TX24) hx9 hb9 hts in_X24 hown hK (jP1 hP (wX_obt hx (by decide))) 0 rfl (hκ.cl rfl) 0 (by decide) (hts _ q1460) (fun _ h => h) (fsO_r hx (by decide) rfl) dX24_put_1 ?_
  rw [hb]
  refine lv_iload_n hx9 hb9 dX24_put_4 rfl (hl.at (i := 1) rfl) ?_
  refine lv_lload_n hx9 hb9 dX24_put_5 rfl (hl.at (i := 2) rfl) ?_
  refine lv_l2i hx9 hb9 dX24_put_6 rfl ?_
  refine lv_i2s hx9 hb9 dX24_put_7 rfl ?_
  refine vx_sastZ hx9 hb9 hK (jP1 hP he) 0 4 rfl (hκ.ty 4 rfl) hi dX24_put_8 (fun tx htx => ?_)
  subst htx
  exact j_out hκ C0 hno hP hD va_S.rf hl (names := ["java/lang/IndexOutOfBoundsException", "java/lang/RuntimeException", "java/lang/Exception"]) (nb := 212) (by decide) (by decide) rfl rfl jLAIO_pl jLAIO_g jLAIO_o (index_text_modelled i _) (index_text_bytes i hlen) (by decide) (by decide) (by decide) (by decide) (by decide) (by decide)
theorem mt_r_size24 {κ : jK} (hκ : jX κ) (G : Nat → Nat) {T : XS} {a b : Nat} {z : XO} (h : rowZ T a 24 = some (b, z)) : jM κ yX24_size (ws_ yX24_size cX24_size 1 (some .int)) 0 0 0 [.ref a] (wX κ G T) (fun u w' => u = some (.int (Int32.ofNat z.2.2.2.1)) ∧ w' = wX κ G T) := by
  obtain ⟨x, hx, hb, hz⟩ := rowZ_some h
  have he : wX κ G T (100 + b) = some (b, .inl (jt κ 4, z.2.2.2.1, .inl z.2.2.2.2.1)) := by rw [wX_arr hz, obE_31 (getO_some hz).2]
  refine jM.of (by decide) rfl (Nat.le_of_ble_eq_true rfl) fun Γ C _ => ?_
  show J κ Γ _ 1 (wX κ G T) 0 0 0 [some (.ref a)] []
  refine j_aload_n C dX24_size_0 rfl rfl ?_
  refine jx_gr24 hκ C hx 0 (by decide) rfl q1460 dX24_size_1 ?_
  rw [hb]
  refine j_alen C (100 + b) 4 he (hκ.ty 4 rfl) rfl dX24_size_4 ?_
  exact j_iret C dX24_size_5 (Nat.zero_le _) (Nat.zero_le _) ⟨rfl, rfl⟩
theorem mt_r_at25 {κ : jK} (hκ : jX κ) (G : Nat → Nat) {T : XS} {a b : Nat} {z : XO} {i : Int32} (h : rowZ T a 25 = some (b, z)) (hi : vp_in i z.2.2.2.1) : jM κ yX25_at (ws_ yX25_at cX25_at 2 (some .long)) 0 0 0 [.ref a, .int i] (wX κ G T) (fun u w' => u = some (.long (rAt 25 z i.toNatClampNeg)) ∧ w' = wX κ G T) := by
  obtain ⟨x, hx, hb, hz⟩ := rowZ_some h
  have he : wX κ G T (100 + b) = some (b, .inl (jt κ 0, z.2.2.2.1, .inl z.2.2.2.2.1)) := by rw [wX_arr hz, obE_32 (getO_some hz).2]
  refine jM.of (by decide) rfl (Nat.le_of_ble_eq_true rfl) fun Γ C _ => ?_
  show J κ Γ _ 2 (wX κ G T) 0 0 0 [some (.ref a), some (.int i)] []
  refine j_aload_n C dX25_at_0 rfl rfl ?_
  refine jx_gr25 hκ C hx 0 (by decide) rfl q1471 dX25_at_1 ?_
  rw [hb]
  refine j_iload_n C dX25_at_4 rfl rfl ?_
  refine j_iald C (100 + b) 0 he (hκ.ty 0 rfl) hi dX25_at_5 ?_
  refine j_i2l C dX25_at_6 ?_
  exact j_lret C dX25_at_7 (Nat.zero_le _) (Nat.zero_le _) ⟨rfl, rfl⟩
theorem mt_r_put25 {κ : jK} (hκ : jX κ) (G : Nat → Nat) {T : XS} {a b : Nat} {z : XO} {i : Int32} {v : Int64} (h : rowZ T a 25 = some (b, z)) (hi : vp_in i z.2.2.2.1) : jM κ yX25_put (ws_ yX25_put cX25_put 4 (some .boolean)) 0 0 0 [.ref a, .int i, .long v] (wX κ G T) (fun u w' => u = some (.int 1) ∧ w' = wX κ G (xO T b (rPut 25 z i.toNatClampNeg v))) := by
  obtain ⟨x, hx, hb, hz⟩ := rowZ_some h
  have he : wX κ G T (100 + b) = some (b, .inl (jt κ 0, z.2.2.2.1, .inl z.2.2.2.2.1)) := by rw [wX_arr hz, obE_32 (getO_some hz).2]
  refine jM.of (by decide) rfl (Nat.le_of_ble_eq_true rfl) fun Γ C _ => ?_
  show J κ Γ _ 4 (wX κ G T) 0 0 0 [some (.ref a), some (.int i), some (.long v), none] []
  refine j_aload_n C dX25_put_0 rfl rfl ?_
  refine jx_gr25 hκ C hx 0 (by decide) rfl q1471 dX25_put_1 ?_
  rw [hb]
  refine j_iload_n C dX25_put_4 rfl rfl ?_
  refine j_lload_n C dX25_put_5 rfl rfl ?_
  refine j_l2i C dX25_put_6 ?_
  refine j_iast C (100 + b) 0 he (hκ.ty 0 rfl) hi dX25_put_7 ?_
  have e : jset (wX κ G T) (100 + b) (b, obE κ G (zI z i.toNatClampNeg v.toInt32)) = _ := wX_sO κ G T b (zI z i.toNatClampNeg v.toInt32)
  rw [obE_32 (z := zI z i.toNatClampNeg v.toInt32) (getO_some hz).2] at e
  refine j_world e ?_
  refine j_iconst C (v := 1) dX25_put_8 rfl ?_
  exact j_zret C rfl dX25_put_9 (Nat.zero_le _) (Nat.zero_le _) ⟨rfl, rfl⟩
theorem mt_r_atX25 {κ : jK} (hκ : jX κ) (G : Nat → Nat) {T : XS} {a b : Nat} {z : XO} {i : Int32} (h : rowZ T a 25 = some (b, z)) (hi : ¬ vp_in i z.2.2.2.1) (hlen : z.2.2.2.1 < 2 ^ 31) : jXM κ yX25_at (ws_ yX25_at cX25_at 2 (some .long)) 220 3 1000 [.ref a, .int i] (wX κ G T) (fun _ _ => False) "java/lang/ArrayIndexOutOfBoundsException" := by
  obtain ⟨x, hx, hb, hz⟩ := rowZ_some h
  have he : wX κ G T (100 + b) = some (b, .inl (jt κ 0, z.2.2.2.1, .inl z.2.2.2.2.1)) := by rw [wX_arr hz, obE_32 (getO_some hz).2]
  refine jXM.ofB (by decide) rfl (Nat.le_of_ble_eq_true rfl) fun p e s m args below meth c A ls C hnm hno hP hD hl => ?_
  have hl : jL ls 2 [some (.ref a), some (.int i)] := hl
  have C0 := C
  obtain ⟨hx9, hb9, hml, hown, hts, hA, hK, hX9, -⟩ := C
  refine lv_aload_n hx9 hb9 dX25_at_0 rfl (hl.at (i := 0) rfl) ?_
  refine va_get (T := TX25) hx9 hb9 hts in_X25 hown hK (jP1 hP (wX_obt hx (by decide))) 0 rfl (hκ.cl rfl) 0 (by decide) (hts _ q1471) (fun _ h => h) (fsO_r hx (by decide) rfl) dX25_at_1 ?_
  rw [hb]
  refine lv_iload_n hx9 hb9 dX25_at_4 rfl (hl.at (i := 1) rfl) ?_
  refine vx_ialdZ hx9 hb9 hK (jP1 hP he) 0 0 rfl (hκ.ty 0 rfl) hi dX25_at_5 (fun tx htx => ?_)
  subst htx
  exact j_out hκ C0 hno hP hD va_S.rf hl (names := ["java/lang/IndexOutOfBoundsException", "java/lang/RuntimeException", "java/lang/Exception"]) (nb := 212) (by decide) (by decide) rfl rfl jLAIO_pl jLAIO_g jLAIO_o (index_text_modelled i _) (index_text_bytes i hlen) (by decide) (by decide) (by decide) (by decide) (by decide) (by decide)
theorem mt_r_putX25 {κ : jK} (hκ : jX κ) (G : Nat → Nat) {T : XS} {a b : Nat} {z : XO} {i : Int32} {v : Int64} (h : rowZ T a 25 = some (b, z)) (hi : ¬ vp_in i z.2.2.2.1) (hlen : z.2.2.2.1 < 2 ^ 31) : jXM κ yX25_put (ws_ yX25_put cX25_put 4 (some .boolean)) 220 3 1000 [.ref a, .int i, .long v] (wX κ G T) (fun _ _ => False) "java/lang/ArrayIndexOutOfBoundsException" := by
  obtain ⟨x, hx, hb, hz⟩ := rowZ_some h
  have he : wX κ G T (100 + b) = some (b, .inl (jt κ 0, z.2.2.2.1, .inl z.2.2.2.2.1)) := by rw [wX_arr hz, obE_32 (getO_some hz).2]
  refine jXM.ofB (by decide) rfl (Nat.le_of_ble_eq_true rfl) fun p e s m args below meth c A ls C hnm hno hP hD hl => ?_
  have hl : jL ls 4 [some (.ref a), some (.int i), some (.long v), none] := hl
  have C0 := C
  obtain ⟨hx9, hb9, hml, hown, hts, hA, hK, hX9, -⟩ := C
  refine lv_aload_n hx9 hb9 dX25_put_0 rfl (hl.at (i := 0) rfl) ?_
  refine va_get (T := TX25) hx9 hb9 hts in_X25 hown hK (jP1 hP (wX_obt hx (by decide))) 0 rfl (hκ.cl rfl) 0 (by decide) (hts _ q1471) (fun _ h => h) (fsO_r hx (by decide) rfl) dX25_put_1 ?_
  rw [hb]
  refine lv_iload_n hx9 hb9 dX25_put_4 rfl (hl.at (i := 1) rfl) ?_
  refine lv_lload_n hx9 hb9 dX25_put_5 rfl (hl.at (i := 2) rfl) ?_
  refine lv_l2i hx9 hb9 dX25_put_6 rfl ?_
  refine vx_iastZ hx9 hb9 hK (jP1 hP he) 0 0 rfl (hκ.ty 0 rfl) hi dX25_put_7 (fun tx htx => ?_)
  subst htx
  exact j_out hκ C0 hno hP hD va_S.rf hl (names := ["java/lang/IndexOutOfBoundsException", "java/lang/RuntimeException", "java/lang/Exception"]) (nb := 212) (by decide) (by decide) rfl rfl jLAIO_pl jLAIO_g jLAIO_o (index_text_modelled i _) (index_text_bytes i hlen) (by decide) (by decide) (by decide) (by decide) (by decide) (by decide)
theorem mt_r_at26 {κ : jK} (hκ : jX κ) (G : Nat → Nat) {T : XS} {a b : Nat} {z : XO} {i : Int32} (h : rowZ T a 26 = some (b, z)) (hi : vp_in i z.2.2.2.1) : jM κ yX26_at (ws_ yX26_at cX26_at 2 (some .long)) 0 0 0 [.ref a, .int i] (wX κ G T) (fun u w' => u = some (.long (rAt 26 z i.toNatClampNeg)) ∧ w' = wX κ G T) := by
  obtain ⟨x, hx, hb, hz⟩ := rowZ_some h
  have he : wX κ G T (100 + b) = some (b, .inl (jt κ 1, z.2.2.2.1, .inr (.inl z.2.2.2.2.2))) := by rw [wX_arr hz, obE_33 (getO_some hz).2]
  refine jM.of (by decide) rfl (Nat.le_of_ble_eq_true rfl) fun Γ C _ => ?_
  show J κ Γ _ 2 (wX κ G T) 0 0 0 [some (.ref a), some (.int i)] []
  refine j_aload_n C dX26_at_0 rfl rfl ?_
  refine jx_gr26 hκ C hx 0 (by decide) rfl q1481 dX26_at_1 ?_
  rw [hb]
  refine j_iload_n C dX26_at_4 rfl rfl ?_
  refine j_lald C (100 + b) 1 he (hκ.ty 1 rfl) hi dX26_at_5 ?_
  exact j_lret C dX26_at_6 (Nat.zero_le _) (Nat.zero_le _) ⟨rfl, rfl⟩
theorem mt_r_put26 {κ : jK} (hκ : jX κ) (G : Nat → Nat) {T : XS} {a b : Nat} {z : XO} {i : Int32} {v : Int64} (h : rowZ T a 26 = some (b, z)) (hi : vp_in i z.2.2.2.1) : jM κ yX26_put (ws_ yX26_put cX26_put 4 (some .boolean)) 0 0 0 [.ref a, .int i, .long v] (wX κ G T) (fun u w' => u = some (.int 1) ∧ w' = wX κ G (xO T b (rPut 26 z i.toNatClampNeg v))) := by
  obtain ⟨x, hx, hb, hz⟩ := rowZ_some h
  have he : wX κ G T (100 + b) = some (b, .inl (jt κ 1, z.2.2.2.1, .inr (.inl z.2.2.2.2.2))) := by rw [wX_arr hz, obE_33 (getO_some hz).2]
  refine jM.of (by decide) rfl (Nat.le_of_ble_eq_true rfl) fun Γ C _ => ?_
  show J κ Γ _ 4 (wX κ G T) 0 0 0 [some (.ref a), some (.int i), some (.long v), none] []
  refine j_aload_n C dX26_put_0 rfl rfl ?_
  refine jx_gr26 hκ C hx 0 (by decide) rfl q1481 dX26_put_1 ?_
  rw [hb]
  refine j_iload_n C dX26_put_4 rfl rfl ?_
  refine j_lload_n C dX26_put_5 rfl rfl ?_
  refine j_last C (100 + b) 1 he (hκ.ty 1 rfl) hi dX26_put_6 ?_
  have e : jset (wX κ G T) (100 + b) (b, obE κ G (zL z i.toNatClampNeg v)) = _ := wX_sO κ G T b (zL z i.toNatClampNeg v)
  rw [obE_33 (z := zL z i.toNatClampNeg v) (getO_some hz).2] at e
  refine j_world e ?_
  refine j_iconst C (v := 1) dX26_put_7 rfl ?_
  exact j_zret C rfl dX26_put_8 (Nat.zero_le _) (Nat.zero_le _) ⟨rfl, rfl⟩
theorem mt_r_atX26 {κ : jK} (hκ : jX κ) (G : Nat → Nat) {T : XS} {a b : Nat} {z : XO} {i : Int32} (h : rowZ T a 26 = some (b, z)) (hi : ¬ vp_in i z.2.2.2.1) (hlen : z.2.2.2.1 < 2 ^ 31) : jXM κ yX26_at (ws_ yX26_at cX26_at 2 (some .long)) 220 3 1000 [.ref a, .int i] (wX κ G T) (fun _ _ => False) "java/lang/ArrayIndexOutOfBoundsException" := by
  obtain ⟨x, hx, hb, hz⟩ := rowZ_some h
  have he : wX κ G T (100 + b) = some (b, .inl (jt κ 1, z.2.2.2.1, .inr (.inl z.2.2.2.2.2))) := by rw [wX_arr hz, obE_33 (getO_some hz).2]
  refine jXM.ofB (by decide) rfl (Nat.le_of_ble_eq_true rfl) fun p e s m args below meth c A ls C hnm hno hP hD hl => ?_
  have hl : jL ls 2 [some (.ref a), some (.int i)] := hl
  have C0 := C
  obtain ⟨hx9, hb9, hml, hown, hts, hA, hK, hX9, -⟩ := C
  refine lv_aload_n hx9 hb9 dX26_at_0 rfl (hl.at (i := 0) rfl) ?_
  refine va_get (T := TX26) hx9 hb9 hts in_X26 hown hK (jP1 hP (wX_obt hx (by decide))) 0 rfl (hκ.cl rfl) 0 (by decide) (hts _ q1481) (fun _ h => h) (fsO_r hx (by decide) rfl) dX26_at_1 ?_
  rw [hb]
  refine lv_iload_n hx9 hb9 dX26_at_4 rfl (hl.at (i := 1) rfl) ?_
  refine vx_laldZ hx9 hb9 hK (jP1 hP he) 0 1 rfl (hκ.ty 1 rfl) hi dX26_at_5 (fun tx htx => ?_)
  subst htx
  exact j_out hκ C0 hno hP hD va_S.rf hl (names := ["java/lang/IndexOutOfBoundsException", "java/lang/RuntimeException", "java/lang/Exception"]) (nb := 212) (by decide) (by decide) rfl rfl jLAIO_pl jLAIO_g jLAIO_o (index_text_modelled i _) (index_text_bytes i hlen) (by decide) (by decide) (by decide) (by decide) (by decide) (by decide)
theorem mt_r_putX26 {κ : jK} (hκ : jX κ) (G : Nat → Nat) {T : XS} {a b : Nat} {z : XO} {i : Int32} {v : Int64} (h : rowZ T a 26 = some (b, z)) (hi : ¬ vp_in i z.2.2.2.1) (hlen : z.2.2.2.1 < 2 ^ 31) : jXM κ yX26_put (ws_ yX26_put cX26_put 4 (some .boolean)) 220 3 1000 [.ref a, .int i, .long v] (wX κ G T) (fun _ _ => False) "java/lang/ArrayIndexOutOfBoundsException" := by
  obtain ⟨x, hx, hb, hz⟩ := rowZ_some h
  have he : wX κ G T (100 + b) = some (b, .inl (jt κ 1, z.2.2.2.1, .inr (.inl z.2.2.2.2.2))) := by rw [wX_arr hz, obE_33 (getO_some hz).2]
  refine jXM.ofB (by decide) rfl (Nat.le_of_ble_eq_true rfl) fun p e s m args below meth c A ls C hnm hno hP hD hl => ?_
  have hl : jL ls 4 [some (.ref a), some (.int i), some (.long v), none] := hl
  have C0 := C
  obtain ⟨hx9, hb9, hml, hown, hts, hA, hK, hX9, -⟩ := C
  refine lv_aload_n hx9 hb9 dX26_put_0 rfl (hl.at (i := 0) rfl) ?_
  refine va_get (T := TX26) hx9 hb9 hts in_X26 hown hK (jP1 hP (wX_obt hx (by decide))) 0 rfl (hκ.cl rfl) 0 (by decide) (hts _ q1481) (fun _ h => h) (fsO_r hx (by decide) rfl) dX26_put_1 ?_
  rw [hb]
  refine lv_iload_n hx9 hb9 dX26_put_4 rfl (hl.at (i := 1) rfl) ?_
  refine lv_lload_n hx9 hb9 dX26_put_5 rfl (hl.at (i := 2) rfl) ?_
  refine vx_lastZ hx9 hb9 hK (jP1 hP he) 0 1 rfl (hκ.ty 1 rfl) hi dX26_put_6 (fun tx htx => ?_)
  subst htx
  exact j_out hκ C0 hno hP hD va_S.rf hl (names := ["java/lang/IndexOutOfBoundsException", "java/lang/RuntimeException", "java/lang/Exception"]) (nb := 212) (by decide) (by decide) rfl rfl jLAIO_pl jLAIO_g jLAIO_o (index_text_modelled i _) (index_text_bytes i hlen) (by decide) (by decide) (by decide) (by decide) (by decide) (by decide)
theorem mt_r_at27 {κ : jK} (hκ : jX κ) (G : Nat → Nat) {T : XS} {a b : Nat} {z : XO} {i : Int32} (h : rowZ T a 27 = some (b, z)) (hi : vp_in i z.2.2.2.1) : jM κ yX27_at (ws_ yX27_at cX27_at 2 (some .long)) 0 0 0 [.ref a, .int i] (wX κ G T) (fun u w' => u = some (.long (rAt 27 z i.toNatClampNeg)) ∧ w' = wX κ G T) := by
  obtain ⟨x, hx, hb, hz⟩ := rowZ_some h
  have he : wX κ G T (100 + b) = some (b, .inl (jt κ 2, z.2.2.2.1, .inl z.2.2.2.2.1)) := by rw [wX_arr hz, obE_34 (getO_some hz).2]
  refine jM.of (by decide) rfl (Nat.le_of_ble_eq_true rfl) fun Γ C _ => ?_
  show J κ Γ _ 2 (wX κ G T) 0 0 0 [some (.ref a), some (.int i)] []
  refine j_aload_n C dX27_at_0 rfl rfl ?_
  refine jx_gr27 hκ C hx 0 (by decide) rfl q1492 dX27_at_1 ?_
  rw [hb]
  refine j_iload_n C dX27_at_4 rfl rfl ?_
  refine j_zald C (100 + b) 2 he (hκ.ty 2 rfl) hi dX27_at_5 ?_
  refine j_if_eq C dX27_at_6 (tgt := 13) (by decide) (fun c => ?_) (fun c => ?_)
  · refine j_lconst C (v := 0) dX27_at_13 rfl ?_
    exact j_lret C dX27_at_14 (Nat.zero_le _) (Nat.zero_le _) ⟨by unfold rAt; rw [if_neg (by decide), if_pos rfl, if_pos c], rfl⟩
  refine j_lconst C (v := 1) dX27_at_9 rfl ?_
  refine j_goto C dX27_at_10 (tgt := 14) (by decide) ?_
  exact j_lret C dX27_at_14 (Nat.zero_le _) (Nat.zero_le _) ⟨by unfold rAt; rw [if_neg (by decide), if_pos rfl, if_neg c], rfl⟩
theorem mt_r_put27 {κ : jK} (hκ : jX κ) (G : Nat → Nat) {T : XS} {a b : Nat} {z : XO} {i : Int32} {v : Int64} (h : rowZ T a 27 = some (b, z)) (hi : vp_in i z.2.2.2.1) : jM κ yX27_put (ws_ yX27_put cX27_put 4 (some .boolean)) 0 0 0 [.ref a, .int i, .long v] (wX κ G T) (fun u w' => u = some (.int 1) ∧ w' = wX κ G (xO T b (rPut 27 z i.toNatClampNeg v))) := by
  obtain ⟨x, hx, hb, hz⟩ := rowZ_some h
  have he : wX κ G T (100 + b) = some (b, .inl (jt κ 2, z.2.2.2.1, .inl z.2.2.2.2.1)) := by rw [wX_arr hz, obE_34 (getO_some hz).2]
  refine jM.of (by decide) rfl (Nat.le_of_ble_eq_true rfl) fun Γ C _ => ?_
  show J κ Γ _ 4 (wX κ G T) 0 0 0 [some (.ref a), some (.int i), some (.long v), none] []
  refine j_aload_n C dX27_put_0 rfl rfl ?_
  refine jx_gr27 hκ C hx 0 (by decide) rfl q1492 dX27_put_1 ?_
  rw [hb]
  refine j_iload_n C dX27_put_4 rfl rfl ?_
  refine j_lload_n C dX27_put_5 rfl rfl ?_
  refine j_lconst C (v := 0) dX27_put_6 rfl ?_
  refine j_lcmp C dX27_put_7 ?_
  refine j_if_eq C dX27_put_8 (tgt := 15) (by decide) (fun c => ?_) (fun c => ?_)
  · refine j_iconst C (v := 0) dX27_put_15 rfl ?_
    refine j_zast C (100 + b) 2 he (hκ.ty 2 rfl) hi dX27_put_16 ?_
    rw [show vp_nar .boolean 0 = 0 from rfl]
    have e : jset (wX κ G T) (100 + b) (b, obE κ G (zI z i.toNatClampNeg 0)) = _ := wX_sO κ G T b (zI z i.toNatClampNeg 0)
    rw [obE_34 (z := zI z i.toNatClampNeg 0) (getO_some hz).2] at e
    refine j_world e ?_
    refine j_iconst C (v := 1) dX27_put_17 rfl ?_
    exact j_zret C rfl dX27_put_18 (Nat.zero_le _) (Nat.zero_le _) ⟨rfl, by unfold rPut; rw [if_neg (by decide), if_pos rfl, if_pos c]⟩
  refine j_iconst C (v := 1) dX27_put_11 rfl ?_
  refine j_goto C dX27_put_12 (tgt := 16) (by decide) ?_
  refine j_zast C (100 + b) 2 he (hκ.ty 2 rfl) hi dX27_put_16 ?_
  rw [show vp_nar .boolean 1 = 1 from rfl]
  have e : jset (wX κ G T) (100 + b) (b, obE κ G (zI z i.toNatClampNeg 1)) = _ := wX_sO κ G T b (zI z i.toNatClampNeg 1)
  rw [obE_34 (z := zI z i.toNatClampNeg 1) (getO_some hz).2] at e
  refine j_world e ?_
  refine j_iconst C (v := 1) dX27_put_17 rfl ?_
  exact j_zret C rfl dX27_put_18 (Nat.zero_le _) (Nat.zero_le _) ⟨rfl, by unfold rPut; rw [if_neg (by decide), if_pos rfl, if_neg c]⟩
theorem mt_r_atX27 {κ : jK} (hκ : jX κ) (G : Nat → Nat) {T : XS} {a b : Nat} {z : XO} {i : Int32} (h : rowZ T a 27 = some (b, z)) (hi : ¬ vp_in i z.2.2.2.1) (hlen : z.2.2.2.1 < 2 ^ 31) : jXM κ yX27_at (ws_ yX27_at cX27_at 2 (some .long)) 220 3 1000 [.ref a, .int i] (wX κ G T) (fun _ _ => False) "java/lang/ArrayIndexOutOfBoundsException" := by
  obtain ⟨x, hx, hb, hz⟩ := rowZ_some h
  have he : wX κ G T (100 + b) = some (b, .inl (jt κ 2, z.2.2.2.1, .inl z.2.2.2.2.1)) := by rw [wX_arr hz, obE_34 (getO_some hz).2]
  refine jXM.ofB (by decide) rfl (Nat.le_of_ble_eq_true rfl) fun p e s m args below meth c A ls C hnm hno hP hD hl => ?_
  have hl : jL ls 2 [some (.ref a), some (.int i)] := hl
  have C0 := C
  obtain ⟨hx9, hb9, hml, hown, hts, hA, hK, hX9, -⟩ := C
  refine lv_aload_n hx9 hb9 dX27_at_0 rfl (hl.at (i := 0) rfl) ?_
  refine va_get (T := TX27) hx9 hb9 hts in_X27 hown hK (jP1 hP (wX_obt hx (by decide))) 0 rfl (hκ.cl rfl) 0 (by decide) (hts _ q1492) (fun _ h => h) (fsO_r hx (by decide) rfl) dX27_at_1 ?_
  rw [hb]
  refine lv_iload_n hx9 hb9 dX27_at_4 rfl (hl.at (i := 1) rfl) ?_
  refine vx_zaldZ hx9 hb9 hK (jP1 hP he) 0 2 rfl (hκ.ty 2 rfl) hi dX27_at_5 (fun tx htx => ?_)
  subst htx
  exact j_out hκ C0 hno hP hD va_S.rf hl (names := ["java/lang/IndexOutOfBoundsException", "java/lang/RuntimeException", "java/lang/Exception"]) (nb := 212) (by decide) (by decide) rfl rfl jLAIO_pl jLAIO_g jLAIO_o (index_text_modelled i _) (index_text_bytes i hlen) (by decide) (by decide) (by decide) (by decide) (by decide) (by decide)
theorem mt_r_putX27 {κ : jK} (hκ : jX κ) (G : Nat → Nat) {T : XS} {a b : Nat} {z : XO} {i : Int32} {v : Int64} (h : rowZ T a 27 = some (b, z)) (hi : ¬ vp_in i z.2.2.2.1) (hlen : z.2.2.2.1 < 2 ^ 31) : jXM κ yX27_put (ws_ yX27_put cX27_put 4 (some .boolean)) 220 3 1000 [.ref a, .int i, .long v] (wX κ G T) (fun _ _ => False) "java/lang/ArrayIndexOutOfBoundsException" := by
  obtain ⟨x, hx, hb, hz⟩ := rowZ_some h
  have he : wX κ G T (100 + b) = some (b, .inl (jt κ 2, z.2.2.2.1, .inl z.2.2.2.2.1)) := by rw [wX_arr hz, obE_34 (getO_some hz).2]
  refine jXM.ofB (by decide) rfl (Nat.le_of_ble_eq_true rfl) fun p e s m args below meth c A ls C hnm hno hP hD hl => ?_
  have hl : jL ls 4 [some (.ref a), some (.int i), some (.long v), none] := hl
  have C0 := C
  obtain ⟨hx9, hb9, hml, hown, hts, hA, hK, hX9, -⟩ := C
  refine lv_aload_n hx9 hb9 dX27_put_0 rfl (hl.at (i := 0) rfl) ?_
  refine va_get (T := TX27) hx9 hb9 hts in_X27 hown hK (jP1 hP (wX_obt hx (by decide))) 0 rfl (hκ.cl rfl) 0 (by decide) (hts _ q1492) (fun _ h => h) (fsO_r hx (by decide) rfl) dX27_put_1 ?_
  rw [hb]
  refine lv_iload_n hx9 hb9 dX27_put_4 rfl (hl.at (i := 1) rfl) ?_
  refine lv_lload_n hx9 hb9 dX27_put_5 rfl (hl.at (i := 2) rfl) ?_
  refine lv_lconst hx9 hb9 (v := 0) dX27_put_6 rfl ?_
  refine W.lcmp hx9 hb9 dX27_put_7 ?_
  refine lv_if_eq hx9 hb9 (tgt := 15) dX27_put_8 (by decide) (fun c => ?_) (fun c => ?_)
  · refine lv_iconst hx9 hb9 (v := 0) dX27_put_15 rfl ?_
    refine vx_zastZ hx9 hb9 hK (jP1 hP he) 0 2 rfl (hκ.ty 2 rfl) hi dX27_put_16 (fun tx htx => ?_)
    subst htx
    exact j_out hκ C0 hno hP hD va_S.rf hl (names := ["java/lang/IndexOutOfBoundsException", "java/lang/RuntimeException", "java/lang/Exception"]) (nb := 212) (by decide) (by decide) rfl rfl jLAIO_pl jLAIO_g jLAIO_o (index_text_modelled i _) (index_text_bytes i hlen) (by decide) (by decide) (by decide) (by decide) (by decide) (by decide)
  refine lv_iconst hx9 hb9 (v := 1) dX27_put_11 rfl ?_
  refine lv_goto hx9 hb9 (tgt := 16) dX27_put_12 (by decide) ?_
  refine vx_zastZ hx9 hb9 hK (jP1 hP he) 0 2 rfl (hκ.ty 2 rfl) hi dX27_put_16 (fun tx htx => ?_)
  subst htx
  exact j_out hκ C0 hno hP hD va_S.rf hl (names := ["java/lang/IndexOutOfBoundsException", "java/lang/RuntimeException", "java/lang/Exception"]) (nb := 212) (by decide) (by decide) rfl rfl jLAIO_pl jLAIO_g jLAIO_o (index_text_modelled i _) (index_text_bytes i hlen) (by decide) (by decide) (by decide) (by decide) (by decide) (by decide)
