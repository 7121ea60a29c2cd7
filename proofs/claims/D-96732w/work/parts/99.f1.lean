/-! SYSTEM.ARRAYCOPY: in bounds and out of them. Own text (vx_vmNat follows vx_vmAt of the kit and Stand.nativeVmThrowsMessage of the library). -/
set_option maxRecDepth 100000
theorem int_print (z : Int) (h : -8589934592 < z ∧ z < 8589934592) : (toString z).toList.length ≤ 11 := by
  show (Int.repr z).toList.length ≤ 11
  cases z with
  | ofNat m =>
    have h1 : (m : Int) < 8589934592 := h.2
    have := nat_print (n := m) (by omega)
    show (toString m).toList.length ≤ 11
    omega
  | negSucc m =>
    have h2 : -8589934592 < -((m : Int) + 1) := by
      have := h.1
      rw [Int.negSucc_eq] at this
      exact this
    have := nat_print (n := m.succ) (by omega)
    show ("-" ++ toString m.succ).toList.length ≤ 11
    rw [String.toList_append, List.length_append]
    have h0 : "-".toList.length = 1 := by decide
    omega
theorem kind_print (t : FieldType) : (Native.java_lang_System.arraycopy.kindName t).toList.length ≤ 12 := by
  cases t with
  | object c => show ("object array" : String).toList.length ≤ 12; decide
  | array c => show ("object array" : String).toList.length ≤ 12; decide
  | _ => unfold Native.java_lang_System.arraycopy.kindName; decide
theorem cp_txt {what : String} (h : what.toList.length ≤ 200) : (("arraycopy: " ++ what) == notModelled) = false ∧ (stringBytes (stringToUtf16 ("arraycopy: " ++ what))).size ≤ 990 := by
  constructor
  · rw [beq_eq_false_iff_ne]
    intro h
    have h2 := congrArg String.toList h
    rw [String.toList_append] at h2
    have h3 : ("arraycopy: " : String).toList = 'a' :: "rraycopy: ".toList := by decide
    have h4 : notModelled.toList = '\u0000' :: " a message that is not modelled".toList := by decide
    rw [h3, h4] at h2
    simp at h2
  · have b1 := stringBytes_size_le (stringToUtf16 ("arraycopy: " ++ what))
    have b2 := utf16_size_le ("arraycopy: " ++ what)
    rw [String.toList_append, List.length_append] at b2
    have h3 : ("arraycopy: " : String).toList.length = 11 := by decide
    omega
abbrev cpBad (sl dl : Nat) (sp dp n : Int32) : Prop := sp < 0 ∨ dp < 0 ∨ n < 0 ∨ (sl : Int) < sp.toInt + n.toInt ∨ (dl : Int) < dp.toInt + n.toInt
theorem cp_fault {ty : FieldType} {sl dl : Nat} {sp dp n : Int32} (hs : sl < 2 ^ 31) (hd : dl < 2 ^ 31) (hb : cpBad sl dl sp dp n) : ∃ what, copyFault ty ty sl dl sp dp n = some what ∧ what.toList.length ≤ 200 := by
  have e1 := sp.le_toInt
  have e2 := sp.toInt_lt
  have e3 := dp.le_toInt
  have e4 := dp.toInt_lt
  have e5 := n.le_toInt
  have e6 := n.toInt_lt
  have k1 := kind_print ty
  have p1 := nat_print (n := sl) (by omega)
  have p2 := nat_print (n := dl) (by omega)
  have i1 := int32_print sp
  have i2 := int32_print dp
  have i3 := int32_print n
  have i4 := int_print (sp.toInt + n.toInt) (by omega)
  have i5 := int_print (dp.toInt + n.toInt) (by omega)
  have a0 : ("[" : String).toList.length = 1 := by decide
  have a1 : ("]" : String).toList.length = 1 := by decide
  have a2 : (" out of bounds for " : String).toList.length = 19 := by decide
  unfold copyFault
  by_cases c1 : sp < 0
  · rw [if_pos c1]
    refine ⟨_, rfl, ?_⟩
    show ("source index " ++ toString sp ++ " out of bounds for " ++ (Native.java_lang_System.arraycopy.kindName ty ++ "[" ++ toString sl ++ "]")).toList.length ≤ 200
    simp only [String.toList_append, List.length_append]
    have a3 : ("source index " : String).toList.length = 13 := by decide
    omega
  rw [if_neg c1]
  by_cases c2 : dp < 0
  · rw [if_pos c2]
    refine ⟨_, rfl, ?_⟩
    show ("destination index " ++ toString dp ++ " out of bounds for " ++ (Native.java_lang_System.arraycopy.kindName ty ++ "[" ++ toString dl ++ "]")).toList.length ≤ 200
    simp only [String.toList_append, List.length_append]
    have a3 : ("destination index " : String).toList.length = 18 := by decide
    omega
  rw [if_neg c2]
  by_cases c3 : n < 0
  · rw [if_pos c3]
    refine ⟨_, rfl, ?_⟩
    show ("length " ++ toString n ++ " is negative").toList.length ≤ 200
    simp only [String.toList_append, List.length_append]
    have a3 : ("length " : String).toList.length = 7 := by decide
    have a4 : (" is negative" : String).toList.length = 12 := by decide
    omega
  rw [if_neg c3]
  by_cases c4 : sp.toInt + n.toInt > sl
  · rw [if_pos c4]
    refine ⟨_, rfl, ?_⟩
    show ("last source index " ++ toString (sp.toInt + n.toInt) ++ " out of bounds for " ++ (Native.java_lang_System.arraycopy.kindName ty ++ "[" ++ toString sl ++ "]")).toList.length ≤ 200
    simp only [String.toList_append, List.length_append]
    have a3 : ("last source index " : String).toList.length = 18 := by decide
    omega
  rw [if_neg c4]
  by_cases c5 : dp.toInt + n.toInt > dl
  · rw [if_pos c5]
    refine ⟨_, rfl, ?_⟩
    show ("last destination index " ++ toString (dp.toInt + n.toInt) ++ " out of bounds for " ++ (Native.java_lang_System.arraycopy.kindName ty ++ "[" ++ toString dl ++ "]")).toList.length ≤ 200
    simp only [String.toList_append, List.length_append]
    have a3 : ("last destination index " : String).toList.length = 23 := by decide
    omega
  · exfalso
    rcases hb with h | h | h | h | h
    · exact c1 h
    · exact c2 h
    · exact c3 h
    · omega
    · omega
set_option maxHeartbeats 1000000 in
/-- the machine throws cls with the message text under a native method, no traces kept -/
theorem vx_vmNat {p : Program} {l : Launch} {e : Env} {R : Room} {s : State} {m₀ : MethodId} {args : Array Value} {below : List Frame} {meth : Method} {c : Code} {W : State} {locs : List Loc} {cells slots : Nat}
    (X : Stand p l e R s m₀ args below meth c W locs cells slots) (hexec : p.tables.exec = Jvm.exec) (htr : e.platform.stackTraces = false) {cls : String} {names : List String} {text : String}
    (hcls : Bundle.fit cls = true) (hnames : ∀ n ∈ names, Bundle.fit n = true) (hsoe : (cls == "java/lang/StackOverflowError") = false) (hoom : (cls == "java/lang/OutOfMemoryError") = false)
    (h : ∀ a ∈ Bundle.messageArmAtoms cls names, a.before args s = true)
    (hlocs : ∀ x ∈ locs, ∀ cell, s.heap[x.base]? = some cell → cell.vm.isStatics = false)
    (htext : (text == notModelled) = false) (hlimit : ¬ (stringBytes (stringToUtf16 text)).size > e.platform.arrayLengthLimit) (hheap : ¬ (stringBytes (stringToUtf16 text)).size * componentBytes .byte > e.platform.maxHeapBytes)
    {g : JFrame} (hsize : g.locals.size = c.maxLocals) {nf : NFrame} (hnf : nf.words = 0)
    (hRframes : names.length + 5 < R.frames) (hRlocals : 2 * g.monitorRoom + (g.stack.map fun v => v.category).sum + 10240 ≤ R.locals) (hshort : 13 * names.length + 55 ≤ 10240)
    (hRcells : cells + 3 ≤ R.cells) (hRslots : slots + ((stringBytes (stringToUtf16 text)).size + 4 + 6) ≤ R.slots) :
    ∃ (S : State) (q : Addr) (ce : Cell), Steps p.tables e below (W.setFrames (.throwNew cls (some text) none :: .native nf :: .java g :: below)) (S.setFrames (.throwing q :: .native nf :: .java g :: below)) ∧
      Stand p l e R s m₀ args below meth c S locs (cells + 3) (slots + ((stringBytes (stringToUtf16 text)).size + 4 + 6)) ∧ S.heap[q]? = some ce ∧ s.vm.findClass cls = some ce.cls ∧ ce.vm = .none := by
  have howns : e.platform.frameOwnsMonitors = true := by rw [X.admits.platform]
  have hfin : e.platform.finalization = false := by rw [X.admits.platform]
  have hpl : e.platform.magicAccessors = ({} : Platform).magicAccessors := by rw [X.admits.platform]
  have a : ∀ x, x ∈ Bundle.messageArmAtoms cls names → x.holds args s none s [] = true := fun x hx => h x hx
  obtain ⟨T, Z0, L, -, Y⟩ := ThrowableC.of_atoms (args := args) howns hfin hpl (fun x hx => h x (by simp [Bundle.messageArmAtoms, hx]))
  obtain ⟨Z, M, LZ, LM, hnZ⟩ := Init0T.ofS_atoms (args := args) hpl L Y (fun x hx => h x (by simp [Bundle.messageArmAtoms, hx]))
  obtain ⟨P1, Ps, hlen, L1, hL, hP1m, hlink1, hlink⟩ := Bundle.chainS (args := args) hpl hnZ names cls hcls hnames (fun x hx => h x (by simp [Bundle.messageArmAtoms, hx]))
  obtain ⟨Zs, LZs, hn4, hfitv, hfitc⟩ := StringT.of_atoms (args := args) (fun x hx => h x (by simp [Bundle.messageArmAtoms, hx]))
  have hfound : s.vm.findClass cls = some P1.m.cls := findClass_of_methodNamed hP1m
  obtain ⟨c1, kX, hc1, hk, hord, -, -, hn6⟩ := Cond.instantiable_spec (a (.instantiable cls 6) (by simp [Bundle.messageArmAtoms]))
  cases Option.some.inj (hc1.symm.trans hfound)
  have hinit := Cond.initialized_spec hfound hk (a (.initialized cls) (by simp [Bundle.messageArmAtoms]))
  have hctor : kX.findMethod "<init>" "(Ljava/lang/String;)V" = some P1.m.idx := findMethod_of_methodNamed hP1m hk
  have hsel0 : selectMethod e.platform s.vm P1.m.cls T.fill0 = .method T.fill0 := by
    obtain ⟨c2, r2, m2, q1, q2, q3, q4, -⟩ := Cond.selects_spec (a (.selects cls Bundle.tFill0 Bundle.tFill0) (by simp [Bundle.messageArmAtoms]))
    cases Option.some.inj (q1.symm.trans hfound)
    cases Option.some.inj (q2.symm.trans (State.methodFound?_of_named Y.fill0 (by decide)))
    cases Option.some.inj (q3.symm.trans Y.fill0)
    rw [Launch.admits_selectMethod X.admits]; exact q4
  have hselF : selectMethod e.platform s.vm P1.m.cls T.fill = .method T.fill := by
    obtain ⟨c2, r2, m2, q1, q2, q3, q4, -⟩ := Cond.selects_spec (a (.selects cls Bundle.tFill Bundle.tFill) (by simp [Bundle.messageArmAtoms]))
    cases Option.some.inj (q1.symm.trans hfound)
    cases Option.some.inj (q2.symm.trans (State.methodFound?_of_named Y.fill (by decide)))
    cases Option.some.inj (q3.symm.trans Y.fill)
    rw [Launch.admits_selectMethod X.admits]; exact q4
  obtain ⟨cellS0, hcS0, hiss⟩ := Y.statics
  obtain ⟨u0, hu0⟩ := Cond.staticRefV Y.unassigned L.unassignedStatic L.statics hcS0 hiss (a (.isRef (.static Bundle.tN "UNASSIGNED_STACK" Bundle.steD)) (by simp [Bundle.messageArmAtoms]))
  obtain ⟨sen, hsen⟩ := Cond.staticRefV Y.sentinel L.sentinelStatic L.statics hcS0 hiss (a (.isRef (.static Bundle.tN "SUPPRESSED_SENTINEL" Bundle.listD)) (by simp [Bundle.messageArmAtoms]))
  obtain ⟨ci198, i198, fB, hk198, hg198, ha198, hsB, -, hnB, htB, hffB⟩ := Cond.ownField (t := .object "java/lang/Object") Y.found L.cls (by decide +kernel) (a (.fieldLink Bundle.tN 198 Bundle.tN "backtrace" "Ljava/lang/Object;") (by simp [Bundle.messageArmAtoms])) (a (.lays Bundle.tN Bundle.tN "backtrace" "Ljava/lang/Object;") (by simp [Bundle.messageArmAtoms])) e.platform hpl
  obtain ⟨cellS, hcS', heS, -, hkeep⟩ := X.same.2.2.2.2.2 T.aS cellS0 hcS0
  have hcellS : W.heap[T.aS]? = some cellS := hcS'
  have hout' : ∀ i, (⟨T.aS, i⟩ : Loc) ∉ locs := fun i hmem => by
    have := hlocs _ hmem cellS0 hcS0
    rw [hiss] at this; cases this
  have hknownS : cellS.vm ≠ .unknown := by
    rw [heS]; intro hu
    rw [show cellS0.vm = .unknown from hu] at hiss
    cases hiss
  have hvU : cellS.slots[T.fUnassigned.slot]? = some u0.v := by rw [hkeep _ (hout' _)]; exact hu0
  have hvSen : cellS.slots[T.fSentinel.slot]? = some sen.v := by rw [hkeep _ (hout' _)]; exact hsen
  obtain ⟨iM, hffM⟩ := Y.msg
  obtain ⟨tyC, dC, hdC, hdnC⟩ := Cond.laysAt hfound hk Y.cause (a (.lays cls Bundle.tN "cause" "Ljava/lang/Throwable;") (by simp [Bundle.messageArmAtoms]))
  obtain ⟨tyS, dS, hdS, hdnS⟩ := Cond.laysAt hfound hk Y.stack (a (.lays cls Bundle.tN "stackTrace" Bundle.steD) (by simp [Bundle.messageArmAtoms]))
  obtain ⟨tyP, dP, hdP, hdnP⟩ := Cond.laysAt hfound hk Y.supp (a (.lays cls Bundle.tN "suppressedExceptions" Bundle.listD) (by simp [Bundle.messageArmAtoms]))
  obtain ⟨tyM, dM, hdM, hdnM⟩ := Cond.laysAt hfound hk hffM (a (.lays cls Bundle.tN "detailMessage" "Ljava/lang/String;") (by simp [Bundle.messageArmAtoms]))
  obtain ⟨tyB, dB, hdB, hdnB⟩ := Cond.laysAt hfound hk hffB (a (.lays cls Bundle.tN "backtrace" "Ljava/lang/Object;") (by simp [Bundle.messageArmAtoms]))
  have bC := Cond.laysApart hdB hdC hdnB hdnC (by rw [hnB, Y.causeName]; decide)
  have bS := Cond.laysApart hdB hdS hdnB hdnS (by rw [hnB, Y.stackName]; decide)
  have bP := Cond.laysApart hdB hdP hdnB hdnP (by rw [hnB, Y.suppName]; decide)
  have hbk : ((preparedCellV T.toThrowableT (freshCell P1.m.cls kX) (W.heap.size + 2) u0 sen).withEntry W.cur).slots[fB.slot]? = some .null := by
    have := fresh_default (c := P1.m.cls) tyB
    rw [htB] at this
    simpa [preparedCellV, Cell.setSlot, Cell.withEntry, Array.getElem?_setIfInBounds, bC, bS, bP, bC.symm, bS.symm, bP.symm, defaultValue] using this
  have tkC := Takes.of_laid (v := .ref (W.heap.size + 2)) hk hord tyC (by rw [Y.causeType]; rfl)
  have tkS := Takes.of_laid (v := u0.v) hk hord tyS (by rw [Y.stackType]; exact fits_refV_array _ u0)
  have tkP := Takes.of_laid (v := sen.v) hk hord tyP (by rw [Y.suppType]; exact fits_refV_object _ sen)
  have tkM := Takes.of_laid (v := .ref (W.heap.size + 1)) hk hord tyM (by rw [Y.msgType]; rfl)
  obtain ⟨vm', X5, h1, hkept⟩ := X.nativeThrowsMessageColdBareV hexec hsize hnf T L Z LZ M LM Zs LZs P1 L1 Ps hL hlink1 hlink hsoe hoom hfound hk hinit hord hctor htext hlimit hheap
    (hfitv _) (hfitc _) hsel0 hselF hcellS hknownS hvU hvSen tkC tkS tkP tkM Y.objLocals ⟨{ ci198 := ci198, i198 := i198, fBack := fB }, ⟨hk198, hg198, ha198, hsB⟩, hbk, fun _ _ => rfl⟩ (fun _ _ hA hW _ hroom _ hrest => L.nativeOff p htr hA hW hroom hrest)
    (by rw [hlen]; exact hRframes) hRlocals (by rw [hlen]; exact hshort) hRcells (by rw [hn4, hn6]; omega)
  have b1 : (bytesOf Zs.cB (stringToUtf16 text)).slots.size = (stringBytes (stringToUtf16 text)).size := by
    rw [(Cell.writeAll_facts _ _).2.2]; simp [bytes0]
  have b2 : (stringAt Zs.cS Zs.kS Zs.fv Zs.fc (stringToUtf16 text) W.heap.size).slots.size = 4 := by simp [string0, Cell.setSlot, hn4]
  have b3 : (freshCell P1.m.cls kX).slots.size = 6 := by simp [hn6]
  have hlt : W.heap.size + 2 < ((withThrown W Zs text P1.m.cls kX).setVm vm').heap.size := by
    show W.heap.size + 2 < (withThrown W Zs text P1.m.cls kX).heap.size
    rw [(withThrown_facts e.platform W Zs text P1.m.cls kX).2.2.1]; omega
  rw [b1, b2, b3] at X5
  have e9 : slots + (stringBytes (stringToUtf16 text)).size + 4 + 6 = slots + ((stringBytes (stringToUtf16 text)).size + 4 + 6) := by omega
  rw [e9] at X5
  refine ⟨_, W.heap.size + 2, _, h1, X5.forget (fun y hy => ?_), heapAt_setCell_self _ hlt, hfound, rfl⟩
  simp only [List.mem_cons, List.not_mem_nil, or_false] at hy
  have hge : s.heap.size ≤ W.heap.size := X.same.2.1
  rcases hy with rfl | rfl | rfl | rfl | rfl <;> exact Nat.le_trans hge (Nat.le_add_right _ 2)
section CPZ
variable {p : Program} {l : Launch} {e : Env} {R : Room} {s : State} {m : MethodId} {args : Array Value} {below : List Frame} {meth : Method} {c : Code} {H : Heap} {locs : List Loc} {cells slots : Nat} {Q : State → Prop}
set_option maxHeartbeats 1000000 in
/-- System.arraycopy out of bounds: the machine's own exception, thrown over the caller's frame -/
theorem vx_copyZ {cc : ByteArray} {pc : Nat} {ls : Array Slot} {rest : List Value} (hexec : p.tables.exec = Jvm.exec) (hb : c.code = cc) (hl9 : l.stackTraces = false) {own : String} {index : Nat} (hown : s.vm.findClass own = some m.cls) (hlink : (Cond.methodLink own index arraycopyName).before args s = true) (hnat : (Cond.native arraycopyName).before args s = true) (hstat : (Cond.static arraycopyName).before args s = true) (hini : (Cond.initialized "java/lang/System").before args s = true)
    {cls : String} {names : List String} {A : Nat → Prop} (hclsE : cls = "java/lang/ArrayIndexOutOfBoundsException") (hcls : Bundle.fit cls = true) (hnames : ∀ n ∈ names, Bundle.fit n = true) (hsoe : (cls == "java/lang/StackOverflowError") = false) (hoom : (cls == "java/lang/OutOfMemoryError") = false)
    (hat : ∀ w ∈ vx_atM cls names, w.before args s = true) (hgood : ∀ w ∈ vx_atM cls names, vx_ot w = true)
    (hU : vx_Zq Bundle.tN "UNASSIGNED_STACK" Bundle.steD A s s.heap) (hN : vx_Zq Bundle.tN "SUPPRESSED_SENTINEL" Bundle.listD A s s.heap) (hS : va_S A s.heap H locs) (hsize : ls.size = c.maxLocals)
    {src dst : Addr} {cs cd : Cell} {ks kd : Class} {sComp dComp : ClassId} {ty : FieldType} (hsc : H[src]? = some cs) (hdc : H[dst]? = some cd) (hsv : ∀ k, cs.vm ≠ .statics k) (hdv : ∀ k, cd.vm ≠ .statics k) (hks : s.vm.classes[cs.cls]? = some ks) (hkd : s.vm.classes[cd.cls]? = some kd) (hsk : ks.kind = .array sComp ty) (hdk : kd.kind = .array dComp ty)
    {sp dp n : Int32} {what : String} (hf : copyFault ty ty cs.slots.size cd.slots.size sp dp n = some what) (htext : (("arraycopy: " ++ what) == notModelled) = false) (hnb : (stringBytes (stringToUtf16 ("arraycopy: " ++ what))).size ≤ 990)
    (hRframes : names.length + 5 < R.frames) (hRlocals : (rest.map fun v => v.category).sum + 10240 ≤ R.locals) (hshort : 13 * names.length + 55 ≤ 10240) (hRcells : cells + 3 ≤ R.cells) (hRslots : slots + 1000 ≤ R.slots) (hdg : decode cc pc = .ok (.invokestatic index, 3))
    (k : ∀ (H1 : Heap) (q9 : Addr) (ce : Cell), H.size ≤ H1.size → (∀ q : Nat, q < H.size → H1[q]? = H[q]?) → va_S A s.heap H1 locs → H1[q9]? = some ce → ce.vm = .none → s.vm.findClass cls = some ce.cls → vx_W p l e R s m args below meth c H1 locs (cells + 3) (slots + 1000) Q (F0 m pc ls rest) q9) :
    W p l e R s m args below meth c H locs cells slots Q (F0 m pc ls (.int n :: .int dp :: .ref dst :: .int sp :: .ref src :: rest)) := by
  intro T hT X
  have htr : e.platform.stackTraces = false := (show e.platform.stackTraces = l.stackTraces by rw [X.admits.platform]).trans hl9
  obtain ⟨r, kS, methS, hnS, hmS, hkS, N⟩ := NativeOf.of_static hnat hstat (ps := [.object "java/lang/Object", .int, .object "java/lang/Object", .int, .int]) (ret := none) (by decide +kernel)
  have hinitS : kS.init = .initialized := Cond.initialized_spec (findClass_of_methodNamed hnS) hkS hini
  obtain ⟨vm', X', step⟩ := X.invokestatic hexec hown hlink hnS hmS N.static hkS hinitS (by decide) (g := F0 m pc ls (.int n :: .int dp :: .ref dst :: .int sp :: .ref src :: rest)) rfl (argsL := [.ref src, .int sp, .ref dst, .int dp, .int n]) (rest := rest) (by rw [N.sig]; rfl) rfl (by rw [hb]; exact hdg)
  have hT' : (T.setVm vm').heap = H := hT
  have hA' : s.vm.Alike vm' := X'.warmed.alike
  obtain ⟨ks', hks', hes⟩ := hA'.2.2 _ _ hks
  obtain ⟨kd', hkd', hed⟩ := hA'.2.2 _ _ hkd
  have hWW : nativeFrameWords "java/lang/System" "arraycopy" 5 + 11 ≤ 10240 := by decide
  have BT : BackT l R p e below s args arraycopyName 3 ((rest.map fun v => v.category).sum) (fun A9 a => A9 = ⟨T.setVm vm', locs, cells, slots⟩ ∧ a = #[.ref src, .int sp, .ref dst, .int dp, .int n])
      (fun _ _ t B => B.locs = locs ∧ B.cells = cells + 3 ∧ B.slots = slots + 1000 ∧ ∃ ce : Cell, B.U.heap[t]? = some ce ∧ ce.vm = .none ∧ s.vm.findClass cls = some ce.cls ∧ H.size ≤ B.U.heap.size ∧ ∀ q : Nat, q < H.size → B.U.heap[q]? = H[q]?) := by
    refine BackT.of_native (row := arraycopyRow) (words := 5) (arraycopy_row p) (nativeStatic (y := arraycopyName) hnat hstat (ps := [.object "java/lang/Object", .int, .object "java/lang/Object", .int, .int]) (ret := none) (by decide +kernel)) (by omega) (by show _ + (nativeFrameWords "java/lang/System" "arraycopy" 5 + 11) ≤ _; omega) fun m₁ meth₁ c₁ A9 a x g mk X9 hg hsz hW hn hst hps hp => ?_
    obtain ⟨rfl, rfl⟩ := hp
    refine ⟨rfl, by simp [seenByNative, hst, hps, narrow], cls, some ("arraycopy: " ++ what), id, fun _ => rfl, rfl, fun fs E hE => ?_, ?_⟩
    · rw [arraycopyRow_sem]
      refine Jvm.W.arraycopy_bounds (s := (T.setVm vm').setFrames fs) (cs := cs) (cd := cd) (by exact (congrArg (fun h => h[src]?) hT').trans hsc) (by exact (congrArg (fun h => h[dst]?) hT').trans hdc) hsv hdv hks' hkd' (by rw [hes]; exact hsk) (by rw [hed]; exact hdk) (by simp) hf ?_
      rw [← hclsE]
      exact hE _
    · have Y := vx_rebase X9 (R' := { frames := R.frames, locals := R.locals, cells := 3, slots := 1000 }) (Nat.le_refl _) (Nat.le_refl _) hRcells hRslots
      have hhp : (((T.setVm vm').setVm s.vm).setFrames (.invoking m₁ args :: below)).heap = H := hT
      have hW0 : s.WarmedH (((T.setVm vm').setVm s.vm).setFrames (.invoking m₁ args :: below)).vm := State.WarmedH.refl s
      have hat' : ∀ w ∈ vx_atM cls names, w.before args (((T.setVm vm').setVm s.vm).setFrames (.invoking m₁ args :: below)) = true := fun w hw => vx_ot_at hW0 rfl (hgood w hw) (hat w hw)
      have hU' : vx_Zq Bundle.tN "UNASSIGNED_STACK" Bundle.steD A (((T.setVm vm').setVm s.vm).setFrames (.invoking m₁ args :: below)) (((T.setVm vm').setVm s.vm).setFrames (.invoking m₁ args :: below)).heap := by rw [hhp]; exact vx_Zq.moved hW0.alike (hU.kept hS.2.1)
      have hN' : vx_Zq Bundle.tN "SUPPRESSED_SENTINEL" Bundle.listD A (((T.setVm vm').setVm s.vm).setFrames (.invoking m₁ args :: below)) (((T.setVm vm').setVm s.vm).setFrames (.invoking m₁ args :: below)).heap := by rw [hhp]; exact vx_Zq.moved hW0.alike (hN.kept hS.2.1)
      obtain ⟨S, q, ce, st, Z, hce, hcl', hv⟩ := vx_vmNat Y hexec htr (cls := cls) (names := names) (text := "arraycopy: " ++ what) hcls hnames hsoe hoom (vx_own hat' (vx_isRefq hU'.1) (vx_isRefq hN'.1) hU'.2.word hN'.2.word) (fun x hx => nomatch hx) htext
        (by rw [Launch.admits_arrayLengthLimit X.admits]; omega) (by rw [Launch.admits_maxHeapBytes X.admits]; simp only [componentBytes]; omega)
        (g := g) hsz (nf := { method := mk, args := #[.ref src, .int sp, .ref dst, .int dp, .int n], locked := none }) rfl hRframes (by show _ ≤ R.locals; omega) hshort (by show 0 + 3 ≤ 3; omega) (by show 0 + (_ + 4 + 6) ≤ 1000; omega)
      obtain ⟨f1, f2⟩ := vx_frame Z.same
      have f1' : H.size ≤ S.heap.size := by rw [← hT]; exact f1
      have f2' : ∀ q : Nat, q < H.size → S.heap[q]? = H[q]? := fun q hq => by
        rw [← hT]
        exact f2 q (by rw [← hT] at hq; exact hq) (fun z hz => nomatch hz)
      have X5 : Stand p l e R s m₁ args below meth₁ c₁ S locs (cells + (0 + 3)) (slots + (0 + ((stringBytes (stringToUtf16 ("arraycopy: " ++ what))).size + 4 + 6))) := vx_back9 X9 Y Z
      have X6 : Stand p l e R s m₁ args below meth₁ c₁ S locs (cells + 3) (slots + 1000) := { X5 with same := X5.same.mono (by omega) (by omega) }
      exact ⟨q, ⟨S, locs, cells + 3, slots + 1000⟩, X6, ⟨rfl, rfl, rfl, ce, hce, hv, hcl', f1', f2'⟩, st⟩
  obtain ⟨q, ⟨U, l9, c9, s9⟩, XB, ⟨rfl, rfl, rfl, ce, hce, hv, hcl, f1, f2⟩, hst⟩ := BT m meth c ⟨T.setVm vm', locs, cells, slots⟩ (F0 m pc ls rest) (.invokestatic index) r #[.ref src, .int sp, .ref dst, .int dp, .int n] X' rfl hsize (by rw [hb]; exact hdg) (by show 2 * 0 + (rest.map fun v => v.category).sum ≤ (rest.map fun v => v.category).sum; omega) (X'.named hnS) ⟨rfl, rfl⟩
  obtain ⟨t, a1, b1⟩ := k U.heap q ce f1 f2 ⟨Nat.le_trans hS.1 f1, fun q h1 h2 => (f2 q (Nat.lt_of_lt_of_le h1 hS.1)).trans (hS.2.1 q h1 h2), hS.2.2⟩ hce hv hcl U rfl XB
  exact ⟨t, step t (fun acts => by rw [doInvoke_state]; exact hst.trans a1), b1⟩
end CPZ
section CPJ
variable {κ : jK} {Γ : jG} {σ : jS} {nL : Nat} {w : jW} {k n : Nat} {pc : Nat} {L : List (Option Value)} {st : List Value} {cc : ByteArray} {own : String} {ret : Option FieldType}
/-- System.arraycopy in bounds, ints -/
theorem j_copyi (C : jC κ Γ cc nL own ret) (r0 r1 t0 : Nat) {index a0 a1 n0 n1 : Nat} {c0 : ClassId} {f g : Nat → Int32} {ty : FieldType} (hlink : Cond.methodLink own index arraycopyName ∈ lw_all) (hnat : Cond.native arraycopyName ∈ lw_all) (hstat : Cond.static arraycopyName ∈ lw_all) (hini : Cond.initialized "java/lang/System" ∈ lw_all)
    (h0 : w r0 = some (a0, .inl (c0, n0, .inl f))) (h1 : w r1 = some (a1, .inl (c0, n1, .inl g))) (ht : κ.2.2.2.1[t0]? = some (c0, ty)) (hprim : refKind ty = false) {sp dp m : Int32} (hok : ¬ cpBad n0 n1 sp dp m) (hfit : ∀ i, i < n0 → fits ty (.int (f i)) = true) (hf : 1 ≤ σ.1) (hl0 : (st.map fun v => v.category).sum + (nativeFrameWords "java/lang/System" "arraycopy" 5 + 11) ≤ 48 * σ.1) (hd : decode cc pc = .ok (.invokestatic index, 3))
    (h : J κ Γ σ nL (jset w r1 (a1, .inl (c0, n1, .inl (va_cpy f g sp.toNatClampNeg dp.toNatClampNeg m.toNatClampNeg)))) k n (pc + 3) L st) : J κ Γ σ nL w k n pc L (.int m :: .int dp :: .ref a1 :: .int sp :: .ref a0 :: st) := by
  obtain ⟨p, e, s, mm, args, below, meth, c, A⟩ := Γ
  obtain ⟨hx, hb, hml, hown, hts, hA, hK, -⟩ := C
  intro H locs ls hP hD hS hl
  have nn : ∀ z : Int32, ¬ z < 0 → z.toInt = (z.toNatClampNeg : Int) := by
    intro z hz
    have hz0 : (0 : Int) ≤ z.toInt := by
      have := Int32.not_lt.mp hz
      simpa using Int32.le_iff_toInt_le.mp this
    show z.toInt = ((z.toInt.toNat : Nat) : Int)
    omega
  have b1 : ¬ sp < 0 := fun q => hok (Or.inl q)
  have b2 : ¬ dp < 0 := fun q => hok (Or.inr (Or.inl q))
  have b3 : ¬ m < 0 := fun q => hok (Or.inr (Or.inr (Or.inl q)))
  have b4 : ¬ (n0 : Int) < sp.toInt + m.toInt := fun q => hok (Or.inr (Or.inr (Or.inr (Or.inl q))))
  have b5 : ¬ (n1 : Int) < dp.toInt + m.toInt := fun q => hok (Or.inr (Or.inr (Or.inr (Or.inr q))))
  have d4 : sp.toNatClampNeg + m.toNatClampNeg ≤ n0 := by rw [nn sp b1, nn m b3] at b4; omega
  intro T hT X
  have hc0 : H[a0]? = some (vp_cell c0 (n0, .inl f)) := hP r0 _ h0
  have hc1 : H[a1]? = some (vp_cell c0 (n1, .inl g)) := hP r1 _ h1
  obtain ⟨-, k0, hk0, cm0, hkk0⟩ := (hK.2 t0 _ ht).1 n0 (fun j => .int (f j))
  obtain ⟨-, k1, hk1, cm1, hkk1⟩ := (hK.2 t0 _ ht).1 n1 (fun j => .int (g j))
  obtain ⟨vm', X', step⟩ := X.arraycopy hx hown (hts _ hlink) (hts _ hnat) (hts _ hstat) (hts _ hini) (src := a0) (dst := a1) (cs := vp_cell c0 (n0, .inl f)) (cd := vp_cell c0 (n1, .inl g)) (srcPos := sp) (destPos := dp) (n := m) (by rw [hT]; exact hc0) (by rw [hT]; exact hc1)
    (fun _ h => by cases h) (fun _ h => by cases h) (fun h => by cases h) (fun h => by cases h) hk0 hk1 hkk0 hkk1 (by simp [hprim]) b1 b2 b3
    (by show ¬ _ > ((arrV c0 n0 (fun j => .int (f j))).slots.size : Int); rw [arrV_size]; omega)
    (by show ¬ _ > ((arrV c0 n1 (fun j => .int (g j))).slots.size : Int); rw [arrV_size]; omega)
    (fun vm₁ _ i hi => by
      have e : (vp_cell c0 (n0, .inl f)).slots.getD (sp.toNatClampNeg + i) .null = .int (f (sp.toNatClampNeg + i)) := by
        show (arrV c0 n0 (fun j => .int (f j))).slots.getD _ _ = _
        rw [Array.getD_eq_getD_getElem?, arrV_read _ _ (by omega)]
        rfl
      refine ⟨?_, ?_⟩
      · rw [e]
        exact hfit _ (by omega)
      · rw [e]
        exact trivial)
    (g := F0 mm pc ls (.int m :: .int dp :: .ref a1 :: .int sp :: .ref a0 :: st)) rfl (hl.1.trans hml.symm) (rest := st) rfl (by rw [hb]; exact hd) hf (by show 2 * 0 + _ + _ ≤ 48 * σ.1; omega)
  have e1 : copied (vp_cell c0 (n0, .inl f)) (vp_cell c0 (n1, .inl g)) sp dp m = vp_cell c0 (n1, .inl (va_cpy f g sp.toNatClampNeg dp.toNatClampNeg m.toNatClampNeg)) := va_copied (fun z => .int z) c0 c0 f g d4
  rw [e1] at X' step
  have hl1 : a1 < H.size := (Array.getElem?_eq_some_iff.mp hc1).1
  have hheap : ((T.setVm vm').setCell a1 (vp_cell c0 (n1, .inl (va_cpy f g sp.toNatClampNeg dp.toNatClampNeg m.toNatClampNeg)))).heap = H.setIfInBounds a1 (vp_cell c0 (n1, .inl (va_cpy f g sp.toNatClampNeg dp.toNatClampNeg m.toNatClampNeg))) := by rw [← hT]; rfl
  have oq : ∀ q : Nat, q ≠ a1 → (H.setIfInBounds a1 (vp_cell c0 (n1, .inl (va_cpy f g sp.toNatClampNeg dp.toNatClampNeg m.toNatClampNeg))))[q]? = H[q]? := fun q hq => by simp [Array.getElem?_setIfInBounds, Ne.symm hq]
  obtain ⟨t, a9, b9⟩ := h _ _ ls (hP.set hD h1 (show (H.setIfInBounds a1 _)[a1]? = some _ by simp [Array.getElem?_setIfInBounds, hl1]) oq) (hD.set h1) ⟨by simp; exact hS.1, fun q g1 g2 => by
      rw [oq q (fun e => g2 (by rw [e]; exact hD.2 r1 _ h1))]
      exact hS.2.1 q g1 g2, fun q hq => by
      rcases List.mem_append.mp hq with h | h
      · exact hS.2.2 q h
      · obtain ⟨z, -, hz⟩ := List.mem_map.mp h
        rw [← hz]
        exact hD.2 r1 _ h1⟩ hl _ hheap X'
  exact ⟨t, step t a9, b9⟩
theorem j_copyl (C : jC κ Γ cc nL own ret) (r0 r1 t0 : Nat) {index a0 a1 n0 n1 : Nat} {c0 : ClassId} {f g : Nat → Int64} (hlink : Cond.methodLink own index arraycopyName ∈ lw_all) (hnat : Cond.native arraycopyName ∈ lw_all) (hstat : Cond.static arraycopyName ∈ lw_all) (hini : Cond.initialized "java/lang/System" ∈ lw_all)
    (h0 : w r0 = some (a0, .inl (c0, n0, .inr (.inl f)))) (h1 : w r1 = some (a1, .inl (c0, n1, .inr (.inl g)))) (ht : κ.2.2.2.1[t0]? = some (c0, .long)) {sp dp m : Int32} (hok : ¬ cpBad n0 n1 sp dp m) (hf : 1 ≤ σ.1) (hl0 : (st.map fun v => v.category).sum + (nativeFrameWords "java/lang/System" "arraycopy" 5 + 11) ≤ 48 * σ.1) (hd : decode cc pc = .ok (.invokestatic index, 3))
    (h : J κ Γ σ nL (jset w r1 (a1, .inl (c0, n1, .inr (.inl (va_cpy f g sp.toNatClampNeg dp.toNatClampNeg m.toNatClampNeg))))) k n (pc + 3) L st) : J κ Γ σ nL w k n pc L (.int m :: .int dp :: .ref a1 :: .int sp :: .ref a0 :: st) := by
  obtain ⟨p, e, s, mm, args, below, meth, c, A⟩ := Γ
  obtain ⟨hx, hb, hml, hown, hts, hA, hK, -⟩ := C
  intro H locs ls hP hD hS hl
  have nn : ∀ z : Int32, ¬ z < 0 → z.toInt = (z.toNatClampNeg : Int) := by
    intro z hz
    have hz0 : (0 : Int) ≤ z.toInt := by
      have := Int32.not_lt.mp hz
      simpa using Int32.le_iff_toInt_le.mp this
    show z.toInt = ((z.toInt.toNat : Nat) : Int)
    omega
  have b1 : ¬ sp < 0 := fun q => hok (Or.inl q)
  have b2 : ¬ dp < 0 := fun q => hok (Or.inr (Or.inl q))
  have b3 : ¬ m < 0 := fun q => hok (Or.inr (Or.inr (Or.inl q)))
  have b4 : ¬ (n0 : Int) < sp.toInt + m.toInt := fun q => hok (Or.inr (Or.inr (Or.inr (Or.inl q))))
  have b5 : ¬ (n1 : Int) < dp.toInt + m.toInt := fun q => hok (Or.inr (Or.inr (Or.inr (Or.inr q))))
  have d4 : sp.toNatClampNeg + m.toNatClampNeg ≤ n0 := by rw [nn sp b1, nn m b3] at b4; omega
  intro T hT X
  have hc0 : H[a0]? = some (vp_cell c0 (n0, .inr (.inl f))) := hP r0 _ h0
  have hc1 : H[a1]? = some (vp_cell c0 (n1, .inr (.inl g))) := hP r1 _ h1
  obtain ⟨-, k0, hk0, cm0, hkk0⟩ := (hK.2 t0 _ ht).1 n0 (fun j => .long (f j))
  obtain ⟨-, k1, hk1, cm1, hkk1⟩ := (hK.2 t0 _ ht).1 n1 (fun j => .long (g j))
  obtain ⟨vm', X', step⟩ := X.arraycopy hx hown (hts _ hlink) (hts _ hnat) (hts _ hstat) (hts _ hini) (src := a0) (dst := a1) (cs := vp_cell c0 (n0, .inr (.inl f))) (cd := vp_cell c0 (n1, .inr (.inl g))) (srcPos := sp) (destPos := dp) (n := m) (by rw [hT]; exact hc0) (by rw [hT]; exact hc1)
    (fun _ h => by cases h) (fun _ h => by cases h) (fun h => by cases h) (fun h => by cases h) hk0 hk1 hkk0 hkk1 (by simp [refKind]) b1 b2 b3
    (by show ¬ _ > ((arrV c0 n0 (fun j => .long (f j))).slots.size : Int); rw [arrV_size]; omega)
    (by show ¬ _ > ((arrV c0 n1 (fun j => .long (g j))).slots.size : Int); rw [arrV_size]; omega)
    (fun vm₁ _ i hi => by
      have e : (vp_cell c0 (n0, .inr (.inl f))).slots.getD (sp.toNatClampNeg + i) .null = .long (f (sp.toNatClampNeg + i)) := by
        show (arrV c0 n0 (fun j => .long (f j))).slots.getD _ _ = _
        rw [Array.getD_eq_getD_getElem?, arrV_read _ _ (by omega)]
        rfl
      refine ⟨?_, ?_⟩
      · rw [e]; rfl
      · rw [e]
        exact trivial)
    (g := F0 mm pc ls (.int m :: .int dp :: .ref a1 :: .int sp :: .ref a0 :: st)) rfl (hl.1.trans hml.symm) (rest := st) rfl (by rw [hb]; exact hd) hf (by show 2 * 0 + _ + _ ≤ 48 * σ.1; omega)
  have e1 : copied (vp_cell c0 (n0, .inr (.inl f))) (vp_cell c0 (n1, .inr (.inl g))) sp dp m = vp_cell c0 (n1, .inr (.inl (va_cpy f g sp.toNatClampNeg dp.toNatClampNeg m.toNatClampNeg))) := va_copied (fun z => .long z) c0 c0 f g d4
  rw [e1] at X' step
  have hl1 : a1 < H.size := (Array.getElem?_eq_some_iff.mp hc1).1
  have hheap : ((T.setVm vm').setCell a1 (vp_cell c0 (n1, .inr (.inl (va_cpy f g sp.toNatClampNeg dp.toNatClampNeg m.toNatClampNeg))))).heap = H.setIfInBounds a1 (vp_cell c0 (n1, .inr (.inl (va_cpy f g sp.toNatClampNeg dp.toNatClampNeg m.toNatClampNeg)))) := by rw [← hT]; rfl
  have oq : ∀ q : Nat, q ≠ a1 → (H.setIfInBounds a1 (vp_cell c0 (n1, .inr (.inl (va_cpy f g sp.toNatClampNeg dp.toNatClampNeg m.toNatClampNeg)))))[q]? = H[q]? := fun q hq => by simp [Array.getElem?_setIfInBounds, Ne.symm hq]
  obtain ⟨t, a9, b9⟩ := h _ _ ls (hP.set hD h1 (show (H.setIfInBounds a1 _)[a1]? = some _ by simp [Array.getElem?_setIfInBounds, hl1]) oq) (hD.set h1) ⟨by simp; exact hS.1, fun q g1 g2 => by
      rw [oq q (fun e => g2 (by rw [e]; exact hD.2 r1 _ h1))]
      exact hS.2.1 q g1 g2, fun q hq => by
      rcases List.mem_append.mp hq with h | h
      · exact hS.2.2 q h
      · obtain ⟨z, -, hz⟩ := List.mem_map.mp h
        rw [← hz]
        exact hD.2 r1 _ h1⟩ hl _ hheap X'
  exact ⟨t, step t a9, b9⟩
end CPJ
