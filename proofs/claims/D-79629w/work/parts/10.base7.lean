/-! a method of a class that no word says to be initialised: the same walk, by a contract that doesn't ask it -/
def g_ML (l : Launch) (x : MethodName) (S : Spec) (P : Array Value → State → Prop) (Q : Array Value → State → Outcome → State → Prop) : Prop :=
  ∀ (p : Program) (e : Env), l.admits e → FairCas e.choices → FairClock e.choices → ∀ (s : State) (m : MethodId) (args : Array Value) (below : List Frame), s.frames = .invoking m args :: below → s.status = .running → s.curStatus? = some .runnable → s.alone = true → s.methodNamed? x = some m → s.hears m below = true → s.hasRoom e.platform S.room = true → S.pre.before args s = true → P args s →
    ∃ n o, (∀ k, k < n → Within (stepsAlone p.tables e k s) below) ∧ (stepsAlone p.tables e n s).status = .running ∧ Ended (stepsAlone p.tables e n s) below o ∧ Q args s o (stepsAlone p.tables e n s)
set_option maxHeartbeats 1000000 in
theorem g_ML.of {l : Launch} {y : MethodName} {ws ws' : List Cond} {rm : Room} {Pc : Array Value → State → Prop} {Qc : Array Value → State → Outcome → State → Prop} {mc ms : Nat} {free : Addr → Prop} {cc : ByteArray} {maxL : Nat} {ret : Option FieldType}
    (hy : plainName y.cls = true) (hw : ws = Cond.code y cc maxL ret :: ws')
    (body : ∀ (p : Program) (e : Env) (s : State) (m : MethodId) (args : Array Value) (below : List Frame) (meth : Method) (c : Code), p.tables.exec = Jvm.exec → c.code = cc → c.maxLocals = maxL → s.methodNamed? y = some m → s.vm.method? m = some meth → meth.sig.returnType = ret → meth.locks = false → (allAtoms ws).before args s = true → Pc args s →
      W p l e rm s m args below meth c s.heap [] 0 0 (MQ below Qc args s mc ms free) (entryFrame m args maxL)) :
    g_ML l y (headSpec ws rm) Pc (fun a st o t => Qc a st o t ∧ ∃ L, FrameEnd st o t L mc ms ∧ ∀ q ∈ L, free q.base) := by
  intro p e ha hc hk s m args below hf hrun hable halone hname hhears hroom hpre hP
  obtain ⟨meth, c, hmeth, hcode, hbytes, hlocals, hret, hlocks, -, -⟩ := Cond.code_spec hname (atoms_spec (ws := ws) hpre _ (by rw [hw]; exact List.mem_cons_self))
  have hcur := State.cur_lt_of_frames hf
  have hf1 : (s.setFrames (.java (entryFrame m args maxL) :: below)).frames = .java (entryFrame m args maxL) :: below := State.frames_setFrames _ hcur
  have ht1 := State.topJava?_of_frames hf1
  have hplain : (s.setFrames (.java (entryFrame m args maxL) :: below)).plainMethod m := by
    refine State.plainMethod.of_name ?_
    intro k hk
    obtain ⟨k', hk', hn⟩ := className_of_methodNamed hname
    cases (show s.vm.classes[m.cls]? = some k from hk).symm.trans hk'
    rw [hn]; exact hy
  have hAt : At (s.setFrames (.java (entryFrame m args maxL) :: below)) m c below :=
    ⟨by rw [ht1]; rfl, ⟨[], by rw [hf1]; rfl⟩, hrun, by simpa using hable, by simpa using halone,
      by rw [State.code?_eq]; simp [State.setFrames, hmeth, hcode], hplain⟩
  have hX : Stand p l e (headSpec ws rm).room s m args below meth c (s.setFrames (.java (entryFrame m args maxL) :: below)) [] 0 0 := by
    obtain ⟨t, ht, -⟩ := State.frames_cons hf
    refine ⟨ha, hc, hk, hf, hroom, hhears, hmeth, hcode, hAt, by rw [hf1]; rfl, State.WarmedH.refl s, by rw [State.stackLimits_setFrames], by rw [State.stackBytes_setFrames], ?_⟩
    exact (State.sameButNew.refl s ht).setFrames (.java (entryFrame m args maxL) :: below) hcur
  obtain ⟨s₂, hs, o, hr, he, hp⟩ := body p e s m args below meth c (by cases p <;> rfl) hbytes hlocals hname hmeth hret hlocks hpre hP (s.setFrames (.java (entryFrame m args maxL) :: below)) rfl hX
  have hstep : (stepThread p.tables e s).1 = (s.setFrames (.java (entryFrame m args maxL) :: below)).setTop (entryFrame m args maxL) := by
    have hfull : e.platform.stackFull (s.setFrames below).me (s.setFrames below).frames c.maxLocals = false := by
      obtain ⟨-, h1, -, h2⟩ := State.hasRoom_stack hroom
      rw [hf, List.length_cons] at h1
      rw [State.localsInUse_invoking hf hmeth hcode] at h2
      have hw := stackUse_le_stackWeight below
      rw [State.frames_setFrames _ hcur]
      exact Platform.stackFull_eq_false (by rw [State.stackLimits_setFrames]; omega) (by rw [State.stackLimits_setFrames]; omega)
    rw [stepThread_invoking hf, (doInvoke_java (s := s.setFrames below) (e := e) (meth := meth) (code := c) hmeth hcode hlocks hfull).1, State.setTop_self ht1]
    simp only [State.pushFrame, State.frames_setFrames _ hcur, State.setFrames_setFrames, hlocals, entryFrame]
  obtain ⟨n, hn, hw⟩ := Steps.head (tb := p.tables) (e := e) ⟨hrun, hable, halone⟩ ⟨[.invoking m args], hf, by simp, by simp⟩ (hstep ▸ hs)
  exact ⟨n, o, hw, hn ▸ hr, hn ▸ he, hn ▸ ⟨hp.1, hp.2⟩⟩
set_option maxHeartbeats 1000000 in
theorem g_ML.back {l : Launch} {R : Room} {p : Program} {e : Env} {below : List Frame} {s : State} {sargs : Array Value} {y : MethodName} {len W : Nat} {ws : List Cond} {rm : Room} {Pc : Array Value → State → Prop} {Qc : Array Value → State → Outcome → State → Prop} {mc ms : Nat} {free : Addr → Prop} {bytes : ByteArray} {maxL : Nat} {ret : Option FieldType}
    (hM : g_ML l y (headSpec ws rm) Pc (fun a st o t => Qc a st o t ∧ ∃ L, FrameEnd st o t L mc ms ∧ ∀ q ∈ L, free q.base)) (hblind : FrameBlind Pc) (hrc : rm.cells = mc) (hrs : rm.slots = ms)
    (hframes : rm.frames + 1 ≤ R.frames) (hlocals : W + (maxL + 11) + rm.locals ≤ R.locals)
    (hws : ∀ w ∈ ws, ∀ (a' : Array Value) (U : State), s.WarmedH U.vm → w.before a' U = true) (hcode : Cond.code y bytes maxL ret ∈ ws) :
    Back l R p e below s sargs y len W (PreOf R mc ms Pc) (PostOf Qc mc ms free) := by
  intro m meth c A g ig mk a X hg hsize hdg hW hn hp
  have h2 : (Cond.code y bytes maxL ret).before a A.U = true := hws _ hcode _ _ X.warmed
  have h1 : (headSpec ws rm).pre.before a A.U = true := atoms_intro fun w hw => hws w hw _ _ X.warmed
  have hPc := hp.2.2
  have h4 : A.cells + rm.cells ≤ R.cells := by rw [hrc]; exact hp.1
  have h5 : A.slots + rm.slots ≤ R.slots := by rw [hrs]; exact hp.2.1
  obtain ⟨U, Ls, c0, s0⟩ := A
  dsimp only [Pt.U, Pt.locs, Pt.cells, Pt.slots] at h1 h2 h4 h5 X hn hPc ⊢
  obtain ⟨methY, cY, hmY, hcY, -, hlY, -, -, -, -⟩ := Cond.code_spec hn h2
  have h : At U g.method c below := by rw [hg]; exact X.here
  have hroom := X.room_calling (g := g) (R' := rm) (args' := a) hsize hmY hcY hframes (by rw [hlY]; omega) h4 h5
  obtain ⟨mid, hmid⟩ := h.above
  have hfr : (U.setTop g).frames = (.java g :: mid) ++ below := by rw [State.frames_setTop' g h.top, hmid]; rfl
  have hcode' : (U.calling g mk a).code? g.method = some c := by
    have := h.code
    rw [State.code?_eq] at this ⊢
    simpa [State.calling, State.pushFrame, State.setFrames] using this
  have hF' := State.frames_calling h.top g mk a
  have hf' : ((U.setTop g).pushFrame (.invoking mk a)).frames = .invoking mk a :: (U.setTop g).frames := by
    rw [State.frames_setTop' g h.top]
    exact hF'
  have hrun : ((U.setTop g).pushFrame (.invoking mk a)).status = .running := h.running
  have hable : ((U.setTop g).pushFrame (.invoking mk a)).curStatus? = some .runnable := by simpa [State.calling] using h.runnable
  have halone : ((U.setTop g).pushFrame (.invoking mk a)).alone = true := by simpa [State.calling] using h.alone
  have hgo : ((U.setTop g).pushFrame (.invoking mk a)).goesOn := ⟨hrun, hable, halone⟩
  have hhears : ((U.setTop g).pushFrame (.invoking mk a)).hears mk (U.setTop g).frames = true := by
    rw [State.frames_setTop' g h.top]
    show (U.calling g mk a).hears mk _ = true
    simp [State.hears, hcode', hdg, Except.toOption]
  have hpre' : (headSpec ws rm).pre.before a ((U.setTop g).pushFrame (.invoking mk a)) = true := by
    show (headSpec ws rm).pre.before a (U.calling g mk a) = true
    rw [State.calling_eq h.top, Cond.before_setFrames]; exact h1
  obtain ⟨n, o, hw, hr, he, hq⟩ := hM p e X.admits X.cas X.clock ((U.setTop g).pushFrame (.invoking mk a)) mk a (U.setTop g).frames hf' hrun hable halone hn hhears hroom hpre' (hblind _ _ _ _ hPc)
  obtain ⟨tt, htt, -⟩ := State.frames_cons hfr
  have hstep : (stepThread p.tables e ((U.setTop g).pushFrame (.invoking mk a))).1 = (doInvoke e (U.setTop g) [] mk a).1 := by
    rw [stepThread_invoking hf', doInvoke_state e (U.setTop g) [], State.pushFrame, State.setFrames_setFrames, State.setFrames_self htt]
  have hres : ∃ s₂, Steps p.tables e below (doInvoke e (U.setTop g) [] mk a).1 s₂ ∧ Ended s₂ (U.setTop g).frames o ∧ Qc a (U.calling g mk a) o s₂ ∧ ∃ L, FrameEnd (U.calling g mk a) o s₂ L mc ms ∧ ∀ q ∈ L, free q.base := by
    cases n with
    | zero => exact absurd ⟨[.invoking mk a], hf', by simp, by simp⟩ he.not_within
    | succ k =>
      rw [stepsAlone_succ _ hgo, hstep] at he hq
      refine ⟨_, ⟨k, rfl, fun j hj => ?_⟩, he, hq.1, hq.2⟩
      have := hw (j + 1) (by omega)
      rw [stepsAlone_succ _ hgo, hstep, hfr] at this
      exact this.weaken
  obtain ⟨s₂, hsteps, hend, hq', L, hfe, hL⟩ := hres
  rw [State.frames_setTop' g h.top] at hend
  obtain ⟨⟨v, rfl⟩, hW₂, e2, q2, q3, q4, q5, q6⟩ := id hfe
  have e3 : s₂ = ({ (U.calling g mk a).setFrames s₂.frames with heap := s₂.heap, slotsUsed := s₂.slotsUsed } : State).setVm s₂.vm := by
    have : s₂ = ({ s₂ with vm := (U.calling g mk a).vm } : State).setVm s₂.vm := rfl
    rw [e2] at this
    exact this
  obtain ⟨c₂, i₂, len₂, hc₂, hd₂, hf₂⟩ := hend
  have hW' : U.WarmedH s₂.vm := hW₂
  have hcc : c₂ = c := by
    have h1 : s₂.code? g.method = U.code? g.method := by
      rw [State.code?_eq, State.code?_eq, hW'.alike.method?]
    exact Option.some.inj (hc₂.symm.trans (h1.trans h.code))
  subst hcc
  have hlen : len₂ = len := by rw [hdg] at hd₂; cases hd₂; rfl
  subst hlen
  obtain ⟨g₀, hg0⟩ := Option.isSome_iff_exists.mp h.top
  obtain ⟨r, hr⟩ := State.topJava?_eq_some.mp hg0
  have hs₂ : s₂ = (({ U with heap := s₂.heap, slotsUsed := s₂.slotsUsed } : State).setVm s₂.vm).setTop { g with pc := g.pc + len₂, stack := v.toList ++ g.stack } := by
    have hr' : (({ U with heap := s₂.heap, slotsUsed := s₂.slotsUsed } : State).setVm s₂.vm).frames = .java g₀ :: r := hr
    refine e3.trans ?_
    rw [hf₂, State.calling_eq h.top, State.setFrames_setFrames, State.setTop_of_frames _ hr', hr]
    rfl
  have hsame : U.sameButNew ({ U with heap := s₂.heap, slotsUsed := s₂.slotsUsed } : State) L mc ms := by
    refine ⟨?_, q2, q3, q4, q5, q6⟩
    obtain ⟨t, ht, -⟩ := State.frames_cons hr
    show ({ U with heap := s₂.heap, slotsUsed := s₂.slotsUsed } : State) = { U.setFrames U.frames with heap := s₂.heap, slotsUsed := s₂.slotsUsed }
    rw [State.setFrames_self ht]
  subst hg
  refine ⟨v, ⟨(({ U with heap := s₂.heap, slotsUsed := s₂.slotsUsed } : State).setVm s₂.vm), Ls ++ L, c0 + mc, s0 + ms⟩,
    ⟨X.admits, X.cas, X.clock, X.frames, X.room, X.hears, X.method, X.code, (X.here.setHeapUsed s₂.heap s₂.slotsUsed).setVm hW'.alike, X.tail, State.WarmedH.trans X.warmed hW', X.limits, X.bytes, X.same.trans (hsame.setVm s.vm)⟩,
    ⟨g, mk, s₂, L, rfl, rfl, hq', rfl, hL, rfl, rfl⟩, ?_⟩
  show Steps p.tables e below _ ((({ U with heap := s₂.heap, slotsUsed := s₂.slotsUsed } : State).setVm s₂.vm).setTop { g with pc := g.pc + len₂, stack := v.toList ++ g.stack })
  rw [← hs₂]
  exact hsteps
def g_LMet (l : Launch) (d : g_D) (y : MethodName) (cc : ByteArray) (nL : Nat) (rt : Option FieldType) (rm : Room) (as : List Value) (wc : List va_W) (mc ms : Nat) (post : Option Value → List va_W → Prop) : Prop :=
  ∀ sz : Nat, g_ML l y (headSpec (ws_ y cc nL rt) rm) (g_Pc d as wc sz) (fun a st o t => g_Qc d post (va_A wc.flatten sz) a st o t ∧ ∃ L, FrameEnd st o t L mc ms ∧ ∀ q ∈ L, va_A wc.flatten sz q.base)
section GL
variable {p : Program} {l : Launch} {e : Env} {R : Room} {s : State} {m : MethodId} {args : Array Value} {below : List Frame} {meth : Method} {c : Code} {H : Heap} {locs : List Loc} {cells slots : Nat} {Q : State → Prop}
variable {cc : ByteArray} {pc nL : Nat} {ls : Array Slot} {rest st0 : List Value} {d : g_D} {A : Nat → Prop} {cs wc wr : List va_W} {own : String} {rt : Option FieldType} {post : Option Value → List va_W → Prop} {mc ms : Nat}
variable {y : MethodName} {bytes : ByteArray} {maxL index : Nat} {ret : Option FieldType} {rm : Room} {b : Addr}
theorem g_enterL {as : List Value} (hy : plainName y.cls = true) (hnl : (lg_sl as).length ≤ nL)
    (body : ∀ (p : Program) (e : Env) (s : State) (m : MethodId) (args : Array Value) (below : List Frame) (meth : Method) (c : Code) (A : Nat → Prop) (ls : Array Slot), g_F p m c cc nL s args y.cls meth rt → g_HS d A s wc s.heap [] → lv_has ls nL (lv_args 0 as) → (y.name = "<init>" → meth.name = "<init>") →
      W p l e rm s m args below meth c s.heap [] 0 0 (g_E d post A below args s mc ms) (F0 m 0 ls [])) : g_LMet l d y cc nL rt rm as wc mc ms post := by
  intro sz
  refine g_ML.of (cc := cc) (maxL := nL) (ret := rt) hy rfl ?_
  intro p e s m args below meth c hx hb hml hnamed hmeth hr hlocks hpre hv
  obtain ⟨rfl, hsz, hP, hD, hG⟩ := hv
  have hts := atoms_spec (ws := ws_ y cc nL rt) hpre
  have hts : ∀ w ∈ lw_all, w.before _ s = true := fun w h => hts w (List.mem_cons_of_mem _ h)
  have hown : s.vm.findClass y.cls = some m.cls := findClass_of_methodNamed hnamed
  have hin := (name_of_methodNamed hnamed hmeth).1
  subst hsz
  rw [lg_entry_eq]
  exact body p e s m as.toArray below meth c (va_A wc.flatten s.heap.size) _ ⟨⟨hx, hb, hml, hown, hts⟩, hr, hlocks⟩ ⟨hP, ⟨hD.1, fun q hq => g_A_in hq⟩, va_S.rf, fun q h => Or.inr h, hG⟩ (lv_entry as hnl) (fun h => hin.trans h)
/-- a call that names x, which owner declares, through an object of class C: y is what it selects -/
theorem g_cGL {x : MethodName} {owner : String} (As : List Value) (n : Nat) (hn : As.length = n) (hF : g_F p m c cc nL s args own meth rt) (hM : g_LMet l d y bytes maxL ret rm (.ref b :: As) wc mc ms post) (h1 : Cond.methodLink own index x ∈ lw_all) (h0 : Cond.sameMethod x.cls owner x.name x.desc ∈ lw_all) (h00 : va_Decl s ⟨owner, x.name, x.desc⟩) (h2 : Cond.instanceMethod y ∈ lw_all) (h5 : Cond.code y bytes maxL ret ∈ lw_all)
    (hrc : rm.cells = mc) (hrs : rm.slots = ms) (hd : owner ≠ "java/lang/invoke/MethodHandle" ∧ owner ≠ "java/lang/invoke/VarHandle" ∧ (parseMethodDescriptor x.desc).map (fun d => d.parameters.length) = some n) (hR : rm.frames + 1 ≤ R.frames ∧ 8 + (maxL + 11) + rm.locals ≤ R.locals)
    (hH : g_HS d A s cs H locs) (is : List Nat) (hp : g_ok is cs.length = true) (hC : is.filterMap (fun i => cs[i]?) = wc) (hr : (g_rest is cs.length).filterMap (fun i => cs[i]?) = wr)
    {C : String} (hrecv : ∃ cell : Cell, H[b]? = some cell ∧ cell.vm.isStatics = false ∧ s.vm.findClass C = some cell.cls) (hsel : (Cond.selects C x y).before args s = true) (hls : ls.size = nL) (hW : (rest.map fun v => v.category).sum ≤ 8) (hdg : decode cc pc = .ok (.invokevirtual index, 3)) (hf : cells + mc ≤ R.cells ∧ slots + ms ≤ R.slots)
    (kk : ∀ (v : Option Value) (w1 : List va_W) (H1 : Heap) (locs1 : List Loc), post v w1 → g_HS d A s (wr ++ w1) H1 locs1 → W p l e R s m args below meth c H1 locs1 (cells + mc) (slots + ms) Q (F0 m (pc + 3) ls (v.toList ++ rest))) : W p l e R s m args below meth c H locs cells slots Q (F0 m pc ls (As.reverse ++ .ref b :: rest)) := by
  have hH2 := g_HS_split hH is hp hC hr
  have ht := hF.1.2.2.2.2
  have hg : GoodIn lw_all (ws_ y bytes maxL ret) := lw_meth h5
  have hcd : Cond.code y bytes maxL ret ∈ ws_ y bytes maxL ret := List.mem_cons_self
  have hK : Back l R p e below s args y 3 8 (PreOf R mc ms (g_Pc d (.ref b :: As) wc H.size)) (PostOf (g_Qc d post (va_A wc.flatten H.size)) mc ms (va_A wc.flatten H.size)) :=
    g_ML.back (bytes := bytes) (maxL := maxL) (ret := ret) (hM H.size) g_blind hrc hrs hR.1 hR.2 (pay_in ht hg) hcd
  have hrun : va_Run p l e R s m args below meth c H locs cells slots mc ms (F0 m pc ls (As.reverse ++ .ref b :: rest)) rest (g_Qc d post (va_A wc.flatten H.size) (Value.ref b :: As).toArray) (va_A wc.flatten H.size) := by
    obtain ⟨hx, hb, hml, ho, -⟩ := hF.1
    obtain ⟨cellB, hcB, hoB, hclB⟩ := hrecv
    intro T hT X
    obtain ⟨v, vm₁, ⟨U', l2, c2, s2⟩, hW₁, X', ⟨g', mk, t, L, e1, e2, hq, h1', hL, h2', h3'⟩, st⟩ := va_callVU X hx (C := C) (owner := owner) (bytes := bytes) (maxL := maxL) (ret := ret) ho (ht _ h1) (ht _ h0) h00 ⟨hd.1, hd.2.1⟩ hsel (ht _ h2) (ht _ h5) hK (by rw [hT]; exact hcB) hoB hclB rfl (hls.trans hml.symm) (argsL := As) (rest := rest) (fun sig h => by
      have h9 := hd.2.2
      rw [h] at h9
      exact hn.trans (Option.some.inj h9).symm) rfl (lv_room hW) (by rw [hb]; exact hdg)
      (fun vm₁ hW₁ => ⟨hf.1, hf.2, g_pre hH2 (.ref b :: As) (T.setVm vm₁) hT hW₁⟩)
    dsimp only [Pt.U, Pt.locs, Pt.cells, Pt.slots] at X' e1 e2 h1' h2' h3' st
    subst h1'; subst h2'; subst h3'
    exact ⟨v, (T.setVm vm₁).calling g' mk (Value.ref b :: As).toArray, t, U', L, hT, X', hL, e1, e2, hq, st⟩
  exact g_called hrun hH2 kk
end GL
