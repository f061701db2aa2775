theorem g_at_AI {args : Array Value} {s : State} (hts : ∀ w ∈ lw_all, w.before args s = true) (hn : ∀ w ∈ lw_tbl, g_mv w = true → va_Nw w s) : ∀ w ∈ (Bundle.messageArmAtoms "java/lang/ArrayIndexOutOfBoundsException" ["java/lang/IndexOutOfBoundsException", "java/lang/RuntimeException", "java/lang/Exception"]).filter vx_no, w.before args s = true := by
  have h : ∀ w ∈ Bundle.messageArmAtoms "java/lang/ArrayIndexOutOfBoundsException" ["java/lang/IndexOutOfBoundsException", "java/lang/RuntimeException", "java/lang/Exception"], vx_no w = true → w.before args s = true := by
    show ∀ w ∈ ([_, _, _, _, _, _, _, _, _, _, _, _, _, _, _, _, _, _, _, _, _, _, _, _, _, _, _, _, _, _, _, _, _, _, _, _, _, _, _, _, _, _, _, _, _, _, _, _, _, _, _, _, _, _, _, _, _, _, _, _, _, _, _, _, _, _, _, _, _] : List Cond), vx_no w = true → w.before args s = true
    exact List.forall_mem_cons.mpr ⟨fun _ => hts _ q96, List.forall_mem_cons.mpr ⟨fun _ => hts _ q328, List.forall_mem_cons.mpr ⟨fun _ => hts _ q269, List.forall_mem_cons.mpr ⟨fun _ => hts _ q288, List.forall_mem_cons.mpr ⟨fun _ => hts _ q291, List.forall_mem_cons.mpr ⟨fun _ => hts _ q293, List.forall_mem_cons.mpr ⟨fun _ => hts _ q329, List.forall_mem_cons.mpr ⟨fun _ => hts _ q330, List.forall_mem_cons.mpr ⟨fun _ => hts _ q137, List.forall_mem_cons.mpr ⟨fun _ => hts _ q138, List.forall_mem_cons.mpr ⟨fun _ => hts _ q263, List.forall_mem_cons.mpr ⟨fun _ => hts _ q268, List.forall_mem_cons.mpr ⟨fun _ => hts _ q289, List.forall_mem_cons.mpr ⟨fun _ => hts _ q296, List.forall_mem_cons.mpr ⟨fun _ => hts _ q322, List.forall_mem_cons.mpr ⟨fun _ => hts _ q297, List.forall_mem_cons.mpr ⟨fun _ => hts _ q323, List.forall_mem_cons.mpr ⟨fun _ => hts _ q298, List.forall_mem_cons.mpr ⟨fun _ => hts _ q324, List.forall_mem_cons.mpr ⟨fun _ => hts _ q264, List.forall_mem_cons.mpr ⟨fun h => absurd h (by decide), List.forall_mem_cons.mpr ⟨fun _ => hts _ q266, List.forall_mem_cons.mpr ⟨fun h => absurd h (by decide), List.forall_mem_cons.mpr ⟨fun _ => hts _ q325, List.forall_mem_cons.mpr ⟨fun _ => hts _ q261, List.forall_mem_cons.mpr ⟨fun _ => hts _ q262, List.forall_mem_cons.mpr ⟨fun _ => hts _ q295, List.forall_mem_cons.mpr ⟨fun _ => hts _ q325, List.forall_mem_cons.mpr ⟨fun _ => hts _ q249, List.forall_mem_cons.mpr ⟨fun _ => hts _ q250, List.forall_mem_cons.mpr ⟨fun _ => hts _ q251, List.forall_mem_cons.mpr ⟨fun _ => hts _ q252, List.forall_mem_cons.mpr ⟨fun _ => va_Nw.use rfl (hn _ q314 rfl), List.forall_mem_cons.mpr ⟨fun _ => hts _ q252, List.forall_mem_cons.mpr ⟨fun _ => hts _ q253, List.forall_mem_cons.mpr ⟨fun _ => hts _ q254, List.forall_mem_cons.mpr ⟨fun _ => hts _ q255, List.forall_mem_cons.mpr ⟨fun _ => va_Nw.use rfl (hn _ q316 rfl), List.forall_mem_cons.mpr ⟨fun _ => hts _ q255, List.forall_mem_cons.mpr ⟨fun _ => hts _ q256, List.forall_mem_cons.mpr ⟨fun _ => hts _ q257, List.forall_mem_cons.mpr ⟨fun _ => hts _ q258, List.forall_mem_cons.mpr ⟨fun _ => va_Nw.use rfl (hn _ q318 rfl), List.forall_mem_cons.mpr ⟨fun _ => hts _ q258, List.forall_mem_cons.mpr ⟨fun _ => hts _ q259, List.forall_mem_cons.mpr ⟨fun _ => hts _ q260, List.forall_mem_cons.mpr ⟨fun _ => hts _ q261, List.forall_mem_cons.mpr ⟨fun _ => va_Nw.use rfl (hn _ q320 rfl), List.forall_mem_cons.mpr ⟨fun _ => hts _ q101, List.forall_mem_cons.mpr ⟨fun _ => hts _ q331, List.forall_mem_cons.mpr ⟨fun _ => hts _ q179, List.forall_mem_cons.mpr ⟨fun _ => hts _ q332, List.forall_mem_cons.mpr ⟨fun _ => hts _ q334, List.forall_mem_cons.mpr ⟨fun _ => hts _ q333, List.forall_mem_cons.mpr ⟨fun _ => hts _ q335, List.forall_mem_cons.mpr ⟨fun _ => hts _ q100, List.forall_mem_cons.mpr ⟨fun _ => hts _ q248, List.forall_mem_cons.mpr ⟨fun _ => va_Nw.use rfl (hn _ q312 rfl), List.forall_mem_cons.mpr ⟨fun _ => hts _ q321, List.forall_mem_cons.mpr ⟨fun _ => hts _ q272, List.forall_mem_cons.mpr ⟨fun _ => hts _ q303, List.forall_mem_cons.mpr ⟨fun _ => hts _ q305, List.forall_mem_cons.mpr ⟨fun _ => hts _ q309, List.forall_mem_cons.mpr ⟨fun _ => hts _ q301, List.forall_mem_cons.mpr ⟨fun h => absurd h (by decide), List.forall_mem_cons.mpr ⟨fun h => absurd h (by decide), List.forall_mem_cons.mpr ⟨fun _ => hts _ q327, List.forall_mem_cons.mpr ⟨fun _ => hts _ q326, List.forall_mem_cons.mpr ⟨fun _ => hts _ q299, (fun _ h => nomatch h)⟩⟩⟩⟩⟩⟩⟩⟩⟩⟩⟩⟩⟩⟩⟩⟩⟩⟩⟩⟩⟩⟩⟩⟩⟩⟩⟩⟩⟩⟩⟩⟩⟩⟩⟩⟩⟩⟩⟩⟩⟩⟩⟩⟩⟩⟩⟩⟩⟩⟩⟩⟩⟩⟩⟩⟩⟩⟩⟩⟩⟩⟩⟩⟩⟩⟩⟩⟩⟩
  intro w hw
  exact h w (List.mem_filter.mp hw).1 (List.mem_filter.mp hw).2

theorem g_at_NA {args : Array Value} {s : State} (hts : ∀ w ∈ lw_all, w.before args s = true) (hn : ∀ w ∈ lw_tbl, g_mv w = true → va_Nw w s) : ∀ w ∈ (Bundle.messageArmAtoms "java/lang/NegativeArraySizeException" ["java/lang/RuntimeException", "java/lang/Exception"]).filter vx_no, w.before args s = true := by
  have h : ∀ w ∈ Bundle.messageArmAtoms "java/lang/NegativeArraySizeException" ["java/lang/RuntimeException", "java/lang/Exception"], vx_no w = true → w.before args s = true := by
    show ∀ w ∈ ([_, _, _, _, _, _, _, _, _, _, _, _, _, _, _, _, _, _, _, _, _, _, _, _, _, _, _, _, _, _, _, _, _, _, _, _, _, _, _, _, _, _, _, _, _, _, _, _, _, _, _, _, _, _, _, _, _, _, _, _, _, _, _, _] : List Cond), vx_no w = true → w.before args s = true
    exact List.forall_mem_cons.mpr ⟨fun _ => hts _ q96, List.forall_mem_cons.mpr ⟨fun _ => hts _ q328, List.forall_mem_cons.mpr ⟨fun _ => hts _ q269, List.forall_mem_cons.mpr ⟨fun _ => hts _ q288, List.forall_mem_cons.mpr ⟨fun _ => hts _ q291, List.forall_mem_cons.mpr ⟨fun _ => hts _ q293, List.forall_mem_cons.mpr ⟨fun _ => hts _ q329, List.forall_mem_cons.mpr ⟨fun _ => hts _ q330, List.forall_mem_cons.mpr ⟨fun _ => hts _ q137, List.forall_mem_cons.mpr ⟨fun _ => hts _ q138, List.forall_mem_cons.mpr ⟨fun _ => hts _ q263, List.forall_mem_cons.mpr ⟨fun _ => hts _ q268, List.forall_mem_cons.mpr ⟨fun _ => hts _ q289, List.forall_mem_cons.mpr ⟨fun _ => hts _ q296, List.forall_mem_cons.mpr ⟨fun _ => hts _ q322, List.forall_mem_cons.mpr ⟨fun _ => hts _ q297, List.forall_mem_cons.mpr ⟨fun _ => hts _ q323, List.forall_mem_cons.mpr ⟨fun _ => hts _ q298, List.forall_mem_cons.mpr ⟨fun _ => hts _ q324, List.forall_mem_cons.mpr ⟨fun _ => hts _ q264, List.forall_mem_cons.mpr ⟨fun h => absurd h (by decide), List.forall_mem_cons.mpr ⟨fun _ => hts _ q266, List.forall_mem_cons.mpr ⟨fun h => absurd h (by decide), List.forall_mem_cons.mpr ⟨fun _ => hts _ q325, List.forall_mem_cons.mpr ⟨fun _ => hts _ q261, List.forall_mem_cons.mpr ⟨fun _ => hts _ q262, List.forall_mem_cons.mpr ⟨fun _ => hts _ q295, List.forall_mem_cons.mpr ⟨fun _ => hts _ q325, List.forall_mem_cons.mpr ⟨fun _ => hts _ q1186, List.forall_mem_cons.mpr ⟨fun _ => hts _ q1187, List.forall_mem_cons.mpr ⟨fun _ => hts _ q1188, List.forall_mem_cons.mpr ⟨fun _ => hts _ q255, List.forall_mem_cons.mpr ⟨fun _ => va_Nw.use rfl (hn _ q316 rfl), List.forall_mem_cons.mpr ⟨fun _ => hts _ q255, List.forall_mem_cons.mpr ⟨fun _ => hts _ q256, List.forall_mem_cons.mpr ⟨fun _ => hts _ q257, List.forall_mem_cons.mpr ⟨fun _ => hts _ q258, List.forall_mem_cons.mpr ⟨fun _ => va_Nw.use rfl (hn _ q318 rfl), List.forall_mem_cons.mpr ⟨fun _ => hts _ q258, List.forall_mem_cons.mpr ⟨fun _ => hts _ q259, List.forall_mem_cons.mpr ⟨fun _ => hts _ q260, List.forall_mem_cons.mpr ⟨fun _ => hts _ q261, List.forall_mem_cons.mpr ⟨fun _ => va_Nw.use rfl (hn _ q320 rfl), List.forall_mem_cons.mpr ⟨fun _ => hts _ q101, List.forall_mem_cons.mpr ⟨fun _ => hts _ q331, List.forall_mem_cons.mpr ⟨fun _ => hts _ q179, List.forall_mem_cons.mpr ⟨fun _ => hts _ q332, List.forall_mem_cons.mpr ⟨fun _ => hts _ q334, List.forall_mem_cons.mpr ⟨fun _ => hts _ q333, List.forall_mem_cons.mpr ⟨fun _ => hts _ q335, List.forall_mem_cons.mpr ⟨fun _ => hts _ q126, List.forall_mem_cons.mpr ⟨fun _ => hts _ q1185, List.forall_mem_cons.mpr ⟨fun _ => va_Nw.use rfl (hn _ q1196 rfl), List.forall_mem_cons.mpr ⟨fun _ => hts _ q1197, List.forall_mem_cons.mpr ⟨fun _ => hts _ q273, List.forall_mem_cons.mpr ⟨fun _ => hts _ q1191, List.forall_mem_cons.mpr ⟨fun _ => hts _ q1192, List.forall_mem_cons.mpr ⟨fun _ => hts _ q1194, List.forall_mem_cons.mpr ⟨fun _ => hts _ q1190, List.forall_mem_cons.mpr ⟨fun h => absurd h (by decide), List.forall_mem_cons.mpr ⟨fun h => absurd h (by decide), List.forall_mem_cons.mpr ⟨fun _ => hts _ q327, List.forall_mem_cons.mpr ⟨fun _ => hts _ q326, List.forall_mem_cons.mpr ⟨fun _ => hts _ q1189, (fun _ h => nomatch h)⟩⟩⟩⟩⟩⟩⟩⟩⟩⟩⟩⟩⟩⟩⟩⟩⟩⟩⟩⟩⟩⟩⟩⟩⟩⟩⟩⟩⟩⟩⟩⟩⟩⟩⟩⟩⟩⟩⟩⟩⟩⟩⟩⟩⟩⟩⟩⟩⟩⟩⟩⟩⟩⟩⟩⟩⟩⟩⟩⟩⟩⟩⟩⟩
  intro w hw
  exact h w (List.mem_filter.mp hw).1 (List.mem_filter.mp hw).2

theorem g_at_NP {args : Array Value} {s : State} (hts : ∀ w ∈ lw_all, w.before args s = true) (hn : ∀ w ∈ lw_tbl, g_mv w = true → va_Nw w s) : ∀ w ∈ (Bundle.npeArmAtoms 8).filter vx_no, w.before args s = true := by
  have h : ∀ w ∈ Bundle.npeArmAtoms 8, vx_no w = true → w.before args s = true := by
    show ∀ w ∈ ([_, _, _, _, _, _, _, _, _, _, _, _, _, _, _, _, _, _, _, _, _, _, _, _, _, _, _, _, _, _, _, _, _, _, _, _, _, _, _, _, _, _, _, _, _, _, _, _, _, _, _, _, _, _, _, _, _, _, _, _] : List Cond), vx_no w = true → w.before args s = true
    exact List.forall_mem_cons.mpr ⟨fun _ => hts _ q96, List.forall_mem_cons.mpr ⟨fun _ => hts _ q328, List.forall_mem_cons.mpr ⟨fun _ => hts _ q269, List.forall_mem_cons.mpr ⟨fun _ => hts _ q288, List.forall_mem_cons.mpr ⟨fun _ => hts _ q291, List.forall_mem_cons.mpr ⟨fun _ => hts _ q293, List.forall_mem_cons.mpr ⟨fun _ => hts _ q329, List.forall_mem_cons.mpr ⟨fun _ => hts _ q330, List.forall_mem_cons.mpr ⟨fun _ => hts _ q137, List.forall_mem_cons.mpr ⟨fun _ => hts _ q138, List.forall_mem_cons.mpr ⟨fun _ => hts _ q263, List.forall_mem_cons.mpr ⟨fun _ => hts _ q268, List.forall_mem_cons.mpr ⟨fun _ => hts _ q289, List.forall_mem_cons.mpr ⟨fun _ => hts _ q296, List.forall_mem_cons.mpr ⟨fun _ => hts _ q322, List.forall_mem_cons.mpr ⟨fun _ => hts _ q297, List.forall_mem_cons.mpr ⟨fun _ => hts _ q323, List.forall_mem_cons.mpr ⟨fun _ => hts _ q298, List.forall_mem_cons.mpr ⟨fun _ => hts _ q324, List.forall_mem_cons.mpr ⟨fun _ => hts _ q264, List.forall_mem_cons.mpr ⟨fun h => absurd h (by decide), List.forall_mem_cons.mpr ⟨fun _ => hts _ q266, List.forall_mem_cons.mpr ⟨fun h => absurd h (by decide), List.forall_mem_cons.mpr ⟨fun _ => hts _ q325, List.forall_mem_cons.mpr ⟨fun _ => hts _ q285, List.forall_mem_cons.mpr ⟨fun _ => hts _ q275, List.forall_mem_cons.mpr ⟨fun _ => hts _ q276, List.forall_mem_cons.mpr ⟨fun _ => hts _ q854, List.forall_mem_cons.mpr ⟨fun _ => hts _ q856, List.forall_mem_cons.mpr ⟨fun _ => hts _ q282, List.forall_mem_cons.mpr ⟨fun _ => hts _ q283, List.forall_mem_cons.mpr ⟨fun _ => va_Nw.use rfl (hn _ q868 rfl), List.forall_mem_cons.mpr ⟨fun _ => hts _ q845, List.forall_mem_cons.mpr ⟨fun _ => hts _ q846, List.forall_mem_cons.mpr ⟨fun _ => hts _ q847, List.forall_mem_cons.mpr ⟨fun _ => hts _ q848, List.forall_mem_cons.mpr ⟨fun _ => va_Nw.use rfl (hn _ q315 rfl), List.forall_mem_cons.mpr ⟨fun _ => hts _ q848, List.forall_mem_cons.mpr ⟨fun _ => hts _ q849, List.forall_mem_cons.mpr ⟨fun _ => hts _ q850, List.forall_mem_cons.mpr ⟨fun _ => hts _ q851, List.forall_mem_cons.mpr ⟨fun _ => va_Nw.use rfl (hn _ q317 rfl), List.forall_mem_cons.mpr ⟨fun _ => hts _ q851, List.forall_mem_cons.mpr ⟨fun _ => hts _ q852, List.forall_mem_cons.mpr ⟨fun _ => hts _ q853, List.forall_mem_cons.mpr ⟨fun _ => hts _ q329, List.forall_mem_cons.mpr ⟨fun _ => va_Nw.use rfl (hn _ q319 rfl), List.forall_mem_cons.mpr ⟨fun _ => hts _ q122, List.forall_mem_cons.mpr ⟨fun _ => hts _ q280, List.forall_mem_cons.mpr ⟨fun _ => va_Nw.use rfl (hn _ q866 rfl), List.forall_mem_cons.mpr ⟨fun _ => hts _ q867, List.forall_mem_cons.mpr ⟨fun _ => hts _ q274, List.forall_mem_cons.mpr ⟨fun _ => hts _ q862, List.forall_mem_cons.mpr ⟨fun _ => hts _ q863, List.forall_mem_cons.mpr ⟨fun _ => hts _ q865, List.forall_mem_cons.mpr ⟨fun h => absurd h (by decide), List.forall_mem_cons.mpr ⟨fun h => absurd h (by decide), List.forall_mem_cons.mpr ⟨fun _ => hts _ q327, List.forall_mem_cons.mpr ⟨fun _ => hts _ q326, List.forall_mem_cons.mpr ⟨fun _ => hts _ q860, (fun _ h => nomatch h)⟩⟩⟩⟩⟩⟩⟩⟩⟩⟩⟩⟩⟩⟩⟩⟩⟩⟩⟩⟩⟩⟩⟩⟩⟩⟩⟩⟩⟩⟩⟩⟩⟩⟩⟩⟩⟩⟩⟩⟩⟩⟩⟩⟩⟩⟩⟩⟩⟩⟩⟩⟩⟩⟩⟩⟩⟩⟩⟩⟩
  intro w hw
  exact h w (List.mem_filter.mp hw).1 (List.mem_filter.mp hw).2
/-! contracts of methods with handlers, and of methods that may throw -/
def g_MetW (l : Launch) (d : g_D) (y : MethodName) (cc : ByteArray) (nL : Nat) (rt : Option FieldType) (hh : List (Nat × Nat × Nat × Nat)) (rm : Room) (as : List Value) (wc : List va_W) (mc ms : Nat) (post : Option Value → List va_W → Prop) : Prop :=
  ∀ sz : Nat, Met l y (wsW_ y cc nL rt hh) rm (g_Pc d as wc sz) (g_Qc d post (va_A wc.flatten sz)) mc ms (va_A wc.flatten sz)
def g_XC (d : g_D) (xp : String → Nat → List va_W → Prop) (A : Nat → Prop) : String → Addr → State → State → Prop := fun E q st t => (∃ w1 : List va_W, xp E q w1 ∧ g_HP d w1 t.heap ∧ g_HD A w1) ∧ va_F A st t
def g_MetX (l : Launch) (d : g_D) (y : MethodName) (cc : ByteArray) (nL : Nat) (rt : Option FieldType) (rm : Room) (as : List Value) (wc : List va_W) (mc ms : Nat) (post : Option Value → List va_W → Prop) (xp : String → Nat → List va_W → Prop) : Prop :=
  ∀ sz : Nat, vx_Met l y (ws_ y cc nL rt) rm (g_Pc d as wc sz) (g_Qc d post (va_A wc.flatten sz)) (g_XC d xp (va_A wc.flatten sz)) mc ms (va_A wc.flatten sz)
def g_EX (d : g_D) (post : Option Value → List va_W → Prop) (xp : String → Nat → List va_W → Prop) (A : Nat → Prop) (below : List Frame) (args : Array Value) (s : State) (mc ms : Nat) : State → Prop := vx_MQ below (g_Qc d post A) (g_XC d xp A) args s mc ms A
section GX
variable {p : Program} {l : Launch} {e : Env} {R : Room} {s : State} {m : MethodId} {args : Array Value} {below : List Frame} {meth : Method} {c : Code} {H : Heap} {locs : List Loc} {cells slots : Nat} {Q : State → Prop}
variable {cc : ByteArray} {pc nL : Nat} {ls : Array Slot} {rest st0 : List Value} {d : g_D} {A : Nat → Prop} {cs cs' wc wr : List va_W} {own : String} {rt : Option FieldType} {post : Option Value → List va_W → Prop} {xp : String → Nat → List va_W → Prop} {mc ms : Nat}
variable {y : MethodName} {bytes : ByteArray} {maxL index : Nat} {ret : Option FieldType} {rm : Room} {C : String} {b : Addr} {hh : List (Nat × Nat × Nat × Nat)}
theorem g_enterW {as : List Value} (hy : plainName y.cls = true) (hnl : (lg_sl as).length ≤ nL)
    (body : ∀ (p : Program) (e : Env) (s : State) (m : MethodId) (args : Array Value) (below : List Frame) (meth : Method) (c : Code) (A : Nat → Prop) (ls : Array Slot), c.exceptionTable.toList = tableOf hh → g_F p m c cc nL s args y.cls meth rt → g_HS d A s wc s.heap [] → lv_has ls nL (lv_args 0 as) →
      W p l e rm s m args below meth c s.heap [] 0 0 (g_E d post A below args s mc ms) (F0 m 0 ls [])) : g_MetW l d y cc nL rt hh rm as wc mc ms post := by
  intro sz
  refine MetFree.of_bodyS (code := cc) (maxLocals := nL) (ret := rt) hy ?_ ?_
  · intro args s m h hn
    obtain ⟨m9, meth, c, hn9, h1, h2, h3, h4, -, h5, h6, -⟩ := Cond.codeWith_spec (atoms_spec (ws := wsW_ y cc nL rt hh) h _ List.mem_cons_self)
    cases hn.symm.trans hn9
    exact ⟨meth, c, h1, h2, h3, h4, h5, h6⟩
  · intro p e s m args below meth c s₁ B hml hP _
    obtain ⟨rfl, hsz, hP, hD, hG⟩ := hP
    have hts0 := atoms_spec (ws := wsW_ y cc nL rt hh) B.pre
    have hts : ∀ w ∈ lw_all, w.before _ s = true := fun w h => hts0 w (List.mem_cons_of_mem _ h)
    have hown : s.vm.findClass y.cls = some m.cls := findClass_of_methodNamed B.named
    have hlocks := B.notSynchronized
    have htab := vx_table (x := y) B (hts0 _ List.mem_cons_self)
    subst hsz
    have hh0 : s₁.heap = s.heap := by rw [B.state]; rfl
    have K : W p l e rm s m as.toArray below meth c s.heap [] 0 0 (g_E d post (va_A wc.flatten s.heap.size) below as.toArray s mc ms) (entryFrame m as.toArray nL) := by
      rw [lg_entry_eq]
      exact body p e s m as.toArray below meth c (va_A wc.flatten s.heap.size) _ htab ⟨⟨B.exec, B.bytes, hml, hown, hts⟩, B.returns, hlocks⟩ ⟨hP, ⟨hD.1, fun q hq => g_A_in hq⟩, va_S.rf, fun q h => Or.inr h, hG⟩ (lv_entry as hnl)
    obtain ⟨t, a1, o, b1, b2, b3⟩ := K s₁ hh0 (Stand.of_body B)
    exact ⟨t, o, a1, b1, b2, ⟨b3.1, b3.2⟩⟩
theorem g_enterX {as : List Value} (hy : plainName y.cls = true) (hnl : (lg_sl as).length ≤ nL)
    (body : ∀ (p : Program) (e : Env) (s : State) (m : MethodId) (args : Array Value) (below : List Frame) (meth : Method) (c : Code) (A : Nat → Prop) (ls : Array Slot), (∀ x ∈ c.exceptionTable.toList, False) → g_F p m c cc nL s args y.cls meth rt → g_HS d A s wc s.heap [] → lv_has ls nL (lv_args 0 as) →
      W p l e rm s m args below meth c s.heap [] 0 0 (g_EX d post xp A below args s mc ms) (F0 m 0 ls [])) : g_MetX l d y cc nL rt rm as wc mc ms post xp := by
  intro sz
  refine vx_ofW (cc := cc) (maxL := nL) (ret := rt) hy rfl ?_
  intro p e s m args below meth c s₁ B hml htab hv
  obtain ⟨rfl, hsz, hP, hD, hG⟩ := hv
  have hts := atoms_spec (ws := ws_ y cc nL rt) B.pre
  have hts : ∀ w ∈ lw_all, w.before _ s = true := fun w h => hts w (List.mem_cons_of_mem _ h)
  have hown : s.vm.findClass y.cls = some m.cls := findClass_of_methodNamed B.named
  have hlocks := B.notSynchronized
  subst hsz
  rw [lg_entry_eq]
  exact body p e s m as.toArray below meth c (va_A wc.flatten s.heap.size) _ htab ⟨⟨B.exec, B.bytes, hml, hown, hts⟩, B.returns, hlocks⟩ ⟨hP, ⟨hD.1, fun q hq => g_A_in hq⟩, va_S.rf, fun q h => Or.inr h, hG⟩ (lv_entry as hnl)
/-- a call through an object of a method with handlers -/
theorem g_cVW (As : List Value) (n : Nat) (hn : As.length = n) (hF : g_F p m c cc nL s args own meth rt) (hM : g_MetW l d y bytes maxL ret hh rm (.ref b :: As) wc mc ms post) (h1 : Cond.methodLink own index y ∈ lw_all) (h2 : Cond.instanceMethod y ∈ lw_all) (h3 : Cond.selects C y y ∈ lw_all) (h4 : Cond.initialized C ∈ lw_all) (h5 : Cond.codeWith y bytes maxL ret hh ∈ lw_all)
    (hrc : rm.cells = mc) (hrs : rm.slots = ms) (hd : y.cls = C ∧ y.cls ≠ "java/lang/invoke/MethodHandle" ∧ y.cls ≠ "java/lang/invoke/VarHandle" ∧ (parseMethodDescriptor y.desc).map (fun d => d.parameters.length) = some n) (hR : rm.frames + 1 ≤ R.frames ∧ 8 + (maxL + 11) + rm.locals ≤ R.locals)
    (hH : g_HS d A s cs H locs) (is : List Nat) (hp : g_ok is cs.length = true) (hC : is.filterMap (fun i => cs[i]?) = wc) (hr : (g_rest is cs.length).filterMap (fun i => cs[i]?) = wr)
    (q0 k0 : Nat) {ch : va_W} {T : u_T} {N ci : Nat} {fs : List Value} (hq : wc[q0]? = some ch) (hb : ch[k0]? = some (b, .inr (ci, fs))) (hcl : g_cl[ci]? = some (C, T, N)) (hls : ls.size = nL) (hW : (rest.map fun v => v.category).sum ≤ 8) (hdg : decode cc pc = .ok (.invokevirtual index, 3)) (hf : cells + mc ≤ R.cells ∧ slots + ms ≤ R.slots)
    (kk : ∀ (v : Option Value) (w1 : List va_W) (H1 : Heap) (locs1 : List Loc), post v w1 → g_HS d A s (wr ++ w1) H1 locs1 → W p l e R s m args below meth c H1 locs1 (cells + mc) (slots + ms) Q (F0 m (pc + 3) ls (v.toList ++ rest))) : W p l e R s m args below meth c H locs cells slots Q (F0 m pc ls (As.reverse ++ .ref b :: rest)) := by
  have hH2 := g_HS_split hH is hp hC hr
  have hm : (b, (Sum.inr (ci, fs) : va_E)) ∈ (wc ++ wr).flatten := by
    rw [List.flatten_append]
    exact List.mem_append_left _ (List.mem_flatten.mpr ⟨ch, List.mem_of_getElem? hq, List.mem_of_getElem? hb⟩)
  have hrecv : ∃ cell : Cell, H[b]? = some cell ∧ cell.vm.isStatics = false ∧ s.vm.findClass C = some cell.cls := by
    obtain ⟨k, hk⟩ := List.getElem?_of_mem hm
    exact va_recv (ws := (wc ++ wr).flatten) hH.2.2.2.2.1 (g_P_of hH2.1) hcl hk
  have cw := vx_cwVW (R := R) (args := args) (s := s) (own := own) (C := C) (index := index) (ws := wsW_ y bytes maxL ret hh) (rm := rm) (mc := mc) (ms := ms) n hF.1.2.2.2.2 (lw_VW h1 h2 h3 h4 h5) rfl hrc hrs hd hR
  exact g_called (vx_runVW hF.1 (hM H.size) cw ⟨g_blind, hrecv, g_pre hH2 (.ref b :: As)⟩ rfl hn hls rfl (lv_room hW) hdg hf) hH2 kk
theorem g_cSW (As : List Value) (n : Nat) (hn : As.length = n) (hF : g_F p m c cc nL s args own meth rt) (hM : g_MetW l d y bytes maxL ret hh rm As wc mc ms post) (h1 : Cond.methodLink own index y ∈ lw_all) (h2 : Cond.static y ∈ lw_all) (h3 : Cond.initialized y.cls ∈ lw_all) (h4 : Cond.codeWith y bytes maxL ret hh ∈ lw_all)
    (hrc : rm.cells = mc) (hrs : rm.slots = ms) (hd : y.cls ≠ "java/lang/invoke/MethodHandle" ∧ y.cls ≠ "java/lang/invoke/VarHandle" ∧ (parseMethodDescriptor y.desc).map (fun d => d.parameters.length) = some n) (hR : rm.frames + 1 ≤ R.frames ∧ 8 + (maxL + 11) + rm.locals ≤ R.locals)
    (hH : g_HS d A s cs H locs) (is : List Nat) (hp : g_ok is cs.length = true) (hC : is.filterMap (fun i => cs[i]?) = wc) (hr : (g_rest is cs.length).filterMap (fun i => cs[i]?) = wr)
    (hls : ls.size = nL) (hW : (rest.map fun v => v.category).sum ≤ 8) (hdg : decode cc pc = .ok (.invokestatic index, 3)) (hf : cells + mc ≤ R.cells ∧ slots + ms ≤ R.slots)
    (kk : ∀ (v : Option Value) (w1 : List va_W) (H1 : Heap) (locs1 : List Loc), post v w1 → g_HS d A s (wr ++ w1) H1 locs1 → W p l e R s m args below meth c H1 locs1 (cells + mc) (slots + ms) Q (F0 m (pc + 3) ls (v.toList ++ rest))) : W p l e R s m args below meth c H locs cells slots Q (F0 m pc ls (As.reverse ++ rest)) := by
  have hH2 := g_HS_split hH is hp hC hr
  have cw := vx_cwSW (R := R) (args := args) (s := s) (own := own) (index := index) (ws := wsW_ y bytes maxL ret hh) (rm := rm) (mc := mc) (ms := ms) n hF.1.2.2.2.2 (lw_SW h1 h2 h3 h4) rfl hrc hrs hd hR
  exact g_called (vx_runSW hF.1 (hM H.size) cw ⟨g_blind, g_pre hH2 As⟩ rfl hn hls rfl (lv_room hW) hdg hf) hH2 kk
/-- behind a call that may throw: it came back, or an object of class E lies at q, thrown -/
theorem g_calledX {a : Array Value} (hr : vx_Run p l e R s m args below meth c H locs cells slots mc ms (F0 m pc ls st0) rest (g_Qc d post (va_A wc.flatten H.size) a) (g_XC d xp (va_A wc.flatten H.size)) (va_A wc.flatten H.size)) (hH : g_HS d A s (wc ++ wr) H locs)
    (kk : ∀ (v : Option Value) (w1 : List va_W) (H1 : Heap) (locs1 : List Loc), post v w1 → g_HS d A s (wr ++ w1) H1 locs1 → W p l e R s m args below meth c H1 locs1 (cells + mc) (slots + ms) Q (F0 m (pc + 3) ls (v.toList ++ rest)))
    (kx : ∀ (E : String) (q : Nat) (w1 : List va_W) (H1 : Heap) (locs1 : List Loc) (ce : Cell), xp E q w1 → g_HS d A s (wr ++ w1) H1 locs1 → H1[q]? = some ce → ce.vm = .none → s.vm.findClass E = some ce.cls → vx_W p l e R s m args below meth c H1 locs1 (cells + mc) (slots + ms) Q (F0 m pc ls rest) q) : W p l e R s m args below meth c H locs cells slots Q (F0 m pc ls st0) := by
  intro T hT X
  have hfr := g_free hH
  have hS := hH.2.2.1
  rcases hr T hT X with ⟨v, st₀, t, T', L, h0, X', hL, e1, e2, ⟨⟨v', w1, hv, hp, hP1, hD1⟩, hz, hk⟩, st⟩ | ⟨q, st₀, t, T', L, E, ce, h0, X', hL, e1, e2, ⟨⟨w1, hp, hP1, hD1⟩, hz, hk⟩, hce, hcv, hcc, st⟩
  · cases hv
    rw [h0] at hz hk
    obtain ⟨t2, a1, b1⟩ := kk v w1 T'.heap (locs ++ L) hp (g_behind hH (by rw [e1]; exact hP1) hD1 (fun q h1 h2 => by rw [e1]; exact hk q h1 h2)
      ⟨Nat.le_trans hS.1 (by rw [e1]; exact hz), fun q h1 h2 => by rw [e1, hk q (Nat.lt_of_lt_of_le h1 hS.1) (fun z => h2 (hfr q z))]; exact hS.2.1 q h1 h2, fun q hq => by
        rcases List.mem_append.mp hq with h | h
        · exact hS.2.2 q h
        · exact hfr _ (hL q h)⟩) T' rfl X'
    exact ⟨t2, st t2 a1, b1⟩
  · rw [h0] at hz hk
    obtain ⟨t2, a1, b1⟩ := kx E q w1 T'.heap (locs ++ L) ce hp (g_behind hH (by rw [e1]; exact hP1) hD1 (fun q h1 h2 => by rw [e1]; exact hk q h1 h2)
      ⟨Nat.le_trans hS.1 (by rw [e1]; exact hz), fun q h1 h2 => by rw [e1, hk q (Nat.lt_of_lt_of_le h1 hS.1) (fun z => h2 (hfr q z))]; exact hS.2.1 q h1 h2, fun q hq => by
        rcases List.mem_append.mp hq with h | h
        · exact hS.2.2 q h
        · exact hfr _ (hL q h)⟩) (by rw [e1]; exact hce) hcv hcc T' rfl X'
    exact ⟨t2, st.trans a1, b1⟩
theorem g_cVX (As : List Value) (n : Nat) (hn : As.length = n) (hF : g_F p m c cc nL s args own meth rt) (hM : g_MetX l d y bytes maxL ret rm (.ref b :: As) wc mc ms post xp) (h1 : Cond.methodLink own index y ∈ lw_all) (h2 : Cond.instanceMethod y ∈ lw_all) (h3 : Cond.selects C y y ∈ lw_all) (h4 : Cond.initialized C ∈ lw_all) (h5 : Cond.code y bytes maxL ret ∈ lw_all)
    (hrc : rm.cells = mc) (hrs : rm.slots = ms) (hd : y.cls = C ∧ y.cls ≠ "java/lang/invoke/MethodHandle" ∧ y.cls ≠ "java/lang/invoke/VarHandle" ∧ (parseMethodDescriptor y.desc).map (fun d => d.parameters.length) = some n) (hR : rm.frames + 1 ≤ R.frames ∧ 8 + (maxL + 11) + rm.locals ≤ R.locals)
    (hH : g_HS d A s cs H locs) (is : List Nat) (hp : g_ok is cs.length = true) (hC : is.filterMap (fun i => cs[i]?) = wc) (hr : (g_rest is cs.length).filterMap (fun i => cs[i]?) = wr)
    (q0 k0 : Nat) {ch : va_W} {T : u_T} {N ci : Nat} {fs : List Value} (hq : wc[q0]? = some ch) (hb : ch[k0]? = some (b, .inr (ci, fs))) (hcl : g_cl[ci]? = some (C, T, N)) (hls : ls.size = nL) (hW : (rest.map fun v => v.category).sum ≤ 8) (hdg : decode cc pc = .ok (.invokevirtual index, 3)) (hf : cells + mc ≤ R.cells ∧ slots + ms ≤ R.slots)
    (kk : ∀ (v : Option Value) (w1 : List va_W) (H1 : Heap) (locs1 : List Loc), post v w1 → g_HS d A s (wr ++ w1) H1 locs1 → W p l e R s m args below meth c H1 locs1 (cells + mc) (slots + ms) Q (F0 m (pc + 3) ls (v.toList ++ rest)))
    (kx : ∀ (E : String) (q : Nat) (w1 : List va_W) (H1 : Heap) (locs1 : List Loc) (ce : Cell), xp E q w1 → g_HS d A s (wr ++ w1) H1 locs1 → H1[q]? = some ce → ce.vm = .none → s.vm.findClass E = some ce.cls → vx_W p l e R s m args below meth c H1 locs1 (cells + mc) (slots + ms) Q (F0 m pc ls rest) q) : W p l e R s m args below meth c H locs cells slots Q (F0 m pc ls (As.reverse ++ .ref b :: rest)) := by
  have hH2 := g_HS_split hH is hp hC hr
  have hm : (b, (Sum.inr (ci, fs) : va_E)) ∈ (wc ++ wr).flatten := by
    rw [List.flatten_append]
    exact List.mem_append_left _ (List.mem_flatten.mpr ⟨ch, List.mem_of_getElem? hq, List.mem_of_getElem? hb⟩)
  have hrecv : ∃ cell : Cell, H[b]? = some cell ∧ cell.vm.isStatics = false ∧ s.vm.findClass C = some cell.cls := by
    obtain ⟨k, hk⟩ := List.getElem?_of_mem hm
    exact va_recv (ws := (wc ++ wr).flatten) hH.2.2.2.2.1 (g_P_of hH2.1) hcl hk
  have cw : CallW R s args own C index y bytes maxL ret (ws_ y bytes maxL ret) rm mc ms n := cwV n hF.1.2.2.2.2 (lw_V h1 h2 h3 h4 h5) rfl hrc hrs hd hR
  exact g_calledX (vx_runV hF.1 (hM H.size) cw ⟨g_blind, hrecv, g_pre hH2 (.ref b :: As)⟩ rfl hn hls rfl (lv_room hW) hdg hf) hH2 kk kx
/-- what was there stays, when cells come behind it -/
theorem g_HS.grow (hH : g_HS d A s cs H locs) {H1 : Heap} (hk : ∀ q : Nat, q < H.size → H1[q]? = H[q]?) (hS : va_S A s.heap H1 locs) : g_HS d A s cs H1 locs :=
  ⟨fun q hq => (hH.1 q hq).kept (hk _ (hH.1 q hq).lt), hH.2.1, hS, hH.2.2.2⟩
/-- the machine's throw with a message: an object of class E at q9 -/
theorem g_note (hF : g_F p m c cc nL s args own meth rt) (hH : g_HS d A s cs H locs) (hl : l.stackTraces = false) {cls text : String} {names : List String} {nb : Nat}
    (hcls : Bundle.fit cls = true) (hnames : ∀ n ∈ names, Bundle.fit n = true) (hsoe : (cls == "java/lang/StackOverflowError") = false) (hoom : (cls == "java/lang/OutOfMemoryError") = false)
    (hat : ∀ w ∈ vx_atM cls names, w.before args s = true) (hgood : ∀ w ∈ vx_atM cls names, vx_ot w = true) (hls : ls.size = nL)
    (htext : (text == notModelled) = false) (hnb : (stringBytes (stringToUtf16 text)).size ≤ nb) (hnb1 : nb ≤ 1000)
    (hRframes : names.length + 4 < R.frames) (hRlocals : (rest.map fun v => v.category).sum + 10240 ≤ R.locals) (hshort : 13 * names.length + 55 ≤ 10240) (hRcells : cells + 3 ≤ R.cells) (hRslots : slots + (nb + 10) ≤ R.slots)
    (k : ∀ (H1 : Heap) (q9 : Addr) (ce : Cell), g_HS d A s cs H1 locs → H1[q9]? = some ce → ce.vm = .none → s.vm.findClass cls = some ce.cls → vx_W p l e R s m args below meth c H1 locs (cells + 3) (slots + (nb + 10)) Q (F0 m pc ls rest) q9) :
    vx_Note p l e R s m args below meth c H locs cells slots Q (F0 m pc ls rest) cls text :=
  vx_vm hF.1.1 hl hcls hnames hsoe hoom hat hgood hH.2.2.2.2.2.2.2.2.2.2.1 hH.2.2.2.2.2.2.2.2.2.2.2.1 hH.2.2.1 (hls.trans hF.1.2.2.1.symm) htext hnb hnb1 hRframes hRlocals hshort hRcells hRslots hF.2.2 (fun H1 q9 ce h1 h2 h3 h4 h5 h6 => k H1 q9 ce (hH.grow h2 h3) h4 h5 h6)
theorem g_noteN (hF : g_F p m c cc nL s args own meth rt) (hH : g_HS d A s cs H locs) (hl : l.stackTraces = false) (hgood : ∀ w ∈ vx_atN 8, vx_ot w = true) (hls : ls.size = nL)
    (hRframes : 7 < R.frames) (hRlocals : (rest.map fun v => v.category).sum + 10240 ≤ R.locals) (hRcells : cells + 1 ≤ R.cells) (hRslots : slots + 8 ≤ R.slots)
    (k : ∀ (H1 : Heap) (q9 : Addr) (ce : Cell), g_HS d A s cs H1 locs → H1[q9]? = some ce → ce.vm = .none → s.vm.findClass "java/lang/NullPointerException" = some ce.cls → vx_W p l e R s m args below meth c H1 locs (cells + 1) (slots + 8) Q (F0 m pc ls rest) q9) :
    vx_NoteN p l e R s m args below meth c H locs cells slots Q (F0 m pc ls rest) :=
  vx_npe hF.1.1 hl (g_at_NP hF.1.2.2.2.2 hH.2.2.2.2.2.1.1) hgood hH.2.2.2.2.2.2.2.2.2.2.1 hH.2.2.2.2.2.2.2.2.2.2.2.1 hH.2.2.1 (hls.trans hF.1.2.2.1.symm) hRframes hRlocals hRcells hRslots hF.2.2 (fun H1 q9 ce h1 h2 h3 h4 h5 h6 => k H1 q9 ce (hH.grow h2 h3) h4 h5 h6)
theorem g_out (hF : g_F p m c cc nL s args own meth rt) (hH : g_HS d A s cs H locs) {E : String} {ce : Cell} {q : Addr} (hout : ∀ x ∈ c.exceptionTable.toList, covers x pc = false) (hcell : H[q]? = some ce) (hv : ce.vm = .none) (hcl : s.vm.findClass E = some ce.cls) (hx : xp E q cs) (hc : cells ≤ mc) (hs : slots ≤ ms) :
    vx_W p l e R s m args below meth c H locs cells slots (g_EX d post xp A below args s mc ms) (F0 m pc ls rest) q :=
  vx_out hout hF.2.2 hcell hv hcl (fun t ht _ => ⟨⟨cs, hx, by rw [ht]; exact hH.1, hH.2.1⟩, hH.2.2.1.F ht⟩) hH.2.2.1.2.2 hc hs
end GX
theorem g_good_AI : ∀ w ∈ vx_atM "java/lang/ArrayIndexOutOfBoundsException" ["java/lang/IndexOutOfBoundsException", "java/lang/RuntimeException", "java/lang/Exception"], vx_ot w = true := by decide +kernel
theorem g_good_NA : ∀ w ∈ vx_atM "java/lang/NegativeArraySizeException" ["java/lang/RuntimeException", "java/lang/Exception"], vx_ot w = true := by decide +kernel
theorem g_good_NP : ∀ w ∈ vx_atN 8, vx_ot w = true := by decide +kernel
theorem g_tx1 {i : Int32} {n : Nat} {tx : String} (h : tx = (toString "Index " ++ toString i ++ toString " out of bounds for length " ++ toString n : String)) : (tx == notModelled) = false := by
  rw [h]
  exact index_text_modelled i n
theorem g_tx2 {i : Int32} {n : Nat} (hn : n < 2 ^ 31) {tx : String} (h : tx = (toString "Index " ++ toString i ++ toString " out of bounds for length " ++ toString n : String)) : (stringBytes (stringToUtf16 tx)).size ≤ 212 := by
  rw [h]
  exact index_text_bytes i hn
theorem g_tx3 {i : Int32} (hi : i < 0) {tx : String} (h : tx = toString i) : (tx == notModelled) = false := by
  rw [h]
  exact negative_text_modelled hi
theorem g_tx4 {i : Int32} {tx : String} (h : tx = toString i) : (stringBytes (stringToUtf16 tx)).size ≤ 212 := by
  rw [h]
  exact Nat.le_trans (negative_text_bytes i) (by decide)
theorem g_vn1 {C : String} {v : Value} (h : v = .null ∨ ∃ t : Nat, v = .ref t) : narrow (.object C) v = v := by rcases h with rfl | ⟨t, rfl⟩ <;> rfl
theorem g_vn2 {C : String} {v : Value} (h : v = .null ∨ ∃ t : Nat, v = .ref t) : fits (.object C) v = true := by rcases h with rfl | ⟨t, rfl⟩ <;> rfl
theorem g_vn3 {ty : FieldType} {v : Value} (h : v = .null ∨ ∃ t : Nat, v = .ref t) : narrow (.array ty) v = v := by rcases h with rfl | ⟨t, rfl⟩ <;> rfl
theorem g_vn4 {ty : FieldType} {v : Value} (h : v = .null ∨ ∃ t : Nat, v = .ref t) : fits (.array ty) v = true := by rcases h with rfl | ⟨t, rfl⟩ <;> rfl
theorem g_getsQ {p : Program} {l : Launch} {e : Env} {R : Room} {s : State} {m : MethodId} {args : Array Value} {below : List Frame} {meth : Method} {c : Code} {H : Heap} {locs : List Loc} {cells slots : Nat} {Q : State → Prop} {cc : ByteArray} {pc nL : Nat} {ls : Array Slot} {rest : List Value} {d : g_D} {A : Nat → Prop} {cs : List va_W} {own : String} {rt : Option FieldType}
    (hF : g_F p m c cc nL s args own meth rt) (hH : g_HS d A s cs H locs) {C n dd ref : String} {index : Nat} (hZ : va_Zq C n dd A s s.heap) (hlink : Cond.fieldLink own index ref n dd ∈ lw_all) (hsame : ∀ x, s.fieldFound? C n dd = some x → s.fieldFound? ref n dd = some x) (hdg : decode cc pc = .ok (.getstatic index, 3))
    (kk : ∀ v : Value, (v = .null ∨ ∃ t : Nat, v = .ref t) → W p l e R s m args below meth c H locs cells slots Q (F0 m (pc + 3) ls (v :: rest))) : W p l e R s m args below meth c H locs cells slots Q (F0 m pc ls rest) := by
  rcases hZ with h | ⟨t, h⟩
  · exact g_gets hF hH h hlink hsame hdg (kk _ (Or.inl rfl))
  · exact g_gets hF hH h hlink hsame hdg (kk _ (Or.inr ⟨t, rfl⟩))
theorem g_cret {p : Program} {l : Launch} {e : Env} {R : Room} {s : State} {m : MethodId} {args : Array Value} {below : List Frame} {meth : Method} {c : Code} {H : Heap} {locs : List Loc} {cc : ByteArray} {pc nL : Nat} {ls : Array Slot} {d : g_D} {A : Nat → Prop} {cs : List va_W} {own : String} {post : Option Value → List va_W → Prop} {mc ms : Nat}
    (hF : g_F p m c cc nL s args own meth (some .char)) {v : Int32} (hn : narrow .char (.int v) = .int v) (hH : g_HS d A s cs H locs) (hq : post (some (.int v)) cs) (hdg : decode cc pc = .ok (.ireturn, 1)) : W p l e R s m args below meth c H locs mc ms (g_E d post A below args s mc ms) (F0 m pc ls [.int v]) :=
  W.zret hF.1.1 hF.1.2.1 hF.2.1 hn (g_q hH hq) hH.2.2.1.2.2 hdg hF.2.2
