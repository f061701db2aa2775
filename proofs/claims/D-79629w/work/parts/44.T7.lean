/-! a forest, if there is one: addresses apart from contents -/
abbrev g_FA : Type := (Nat → Nat) × (Nat → Nat) × (Nat → Nat) × (Nat → Nat)
abbrev g_FC : Type := Nat × List Nat × g_TC × (Int32 × (Nat → Int32))
def g_ad5 (a b c e f : Nat) : Nat → Nat := fun k => match k with | 0 => a | 1 => b | 2 => c | 3 => e | _ => f
def g_FS (d : g_D) (af : g_FA) (fo : Option g_FC) : va_W := match fo with
  | none => []
  | some f => (af.1 0, .inr (4, [.ref (af.2.1 f.1), .ref (af.1 1), .ref (af.1 2)])) :: (g_AL d (af.1 1) (af.1 3) af.2.1 f.2.1 ++ (g_T d af.2.1 af.2.2.1 af.2.2.2 f.2.2.1 ++ [(af.1 2, .inr (1, [.ref (af.1 4), .int f.2.2.2.1])), (af.1 4, .inl (d.2.1 2, 10, .inl f.2.2.2.2))]))
def g_fa (af : g_FA) (fo : Option g_FC) : Option Nat := fo.map (fun _ => af.1 0)
theorem g_HS.closeF {d : g_D} {A : Nat → Prop} {s : State} {a b c e f rk : Nat} {tn tl tr : Nat → Nat} {ns : List Nat} {tc : g_TC} {vm : Int32} {vf : Nat → Int32} {cr : List va_W} {H : Heap} {locs : List Loc} (hH : g_HS d A s ([(a, .inr (4, [.ref (tn rk), .ref b, .ref c]))] :: g_AL d b e tn ns :: g_T d tn tl tr tc :: [(c, .inr (1, [.ref f, .int vm]))] :: [(f, .inl (d.2.1 2, 10, .inl vf))] :: cr) H locs) : g_HS d A s (g_FS d (g_ad5 a b c e f, tn, tl, tr) (some (rk, ns, tc, (vm, vf))) :: cr) H locs := by
  refine hH.fl ?_
  simp [g_FS, g_ad5, List.append_assoc]

def wp_X0_forest (n : Int32) (near : Nat → Int32) (fo : Option g_FC) (Q : Nat → List Nat → g_TC → Int32 → (Nat → Int32) → Prop) : Prop := (fo = none → wp_X0_forest_none n near Q) ∧ (∀ f, fo = some f → Q f.1 f.2.1 f.2.2.1 f.2.2.2.1 f.2.2.2.2)
set_option maxRecDepth 100000 in
theorem met_X0_forest (l : Launch) (hl0 : l.stackTraces = false) (d : g_D) (ob hA tA lA gA : Nat) (oa : Option Nat) (af : g_FA) (fo : Option g_FC) (n : Int32) (gB : Nat) (near : Nat → Int32) (Q : Nat → List Nat → g_TC → Int32 → (Nat → Int32) → Prop) (hw : wp_X0_forest n near fo Q) :
    g_Met l d yX0_forest cX0_forest 1 (Option.some (FieldType.object "GraphModules$Forest")) ({ frames := 56, cells := 226, slots := 2978, locals := 14445 } : Room) [.ref ob] [[(ob, .inr (0, [.ref hA, .ref tA, .ref lA, .ref gA, va_rf (g_fa af fo), va_rf oa]))], [(gA, .inr (2, [.int n, .ref gB]))], [(gB, .inl (d.2.1 0, 10, .inl near))], (g_FS d af fo)] 226 2978 (fun v w1 => ∃ (aF : Nat) (tn : Nat → Nat) (tl : Nat → Nat) (tr : Nat → Nat) (na : Nat) (nb : Nat) (va : Nat) (vb : Nat) (rk : Nat) (ns : List Nat) (tc : g_TC) (vm : Int32) (vf : Nat → Int32), v = some (.ref aF) ∧ w1 = [[(ob, .inr (0, [.ref hA, .ref tA, .ref lA, .ref gA, .ref aF, va_rf oa]))], [(gA, .inr (2, [.int n, .ref gB]))], [(gB, .inl (d.2.1 0, 10, .inl near))], [(aF, .inr (4, [.ref (tn rk), .ref na, .ref va]))], (g_AL d na nb tn ns), (g_T d tn tl tr tc), [(va, .inr (1, [.ref vb, .int vm]))], [(vb, .inl (d.2.1 2, 10, .inl vf))]] ∧ Q rk ns tc vm vf) := by
  cases fo with
  | none => exact (met_X0_forest_none l hl0 d ob hA tA lA gA oa n gB near Q (hw.1 rfl)).fl rfl
  | some f =>
    have h := met_X0_forest_some l hl0 d ob hA tA lA gA (af.1 0) oa n gB near af.2.1 f.1 (af.1 1) (af.1 2) (af.1 3) f.2.1 af.2.2.1 af.2.2.2 f.2.2.1 (af.1 4) f.2.2.2.1 f.2.2.2.2 (Q f.1 f.2.1 f.2.2.1 f.2.2.2.1 f.2.2.2.2) (by unfold wp_X0_forest_some; exact hw.2 f rfl)
    have h2 := h.fl (wc' := [[(ob, .inr (0, [.ref hA, .ref tA, .ref lA, .ref gA, va_rf (g_fa af (some f)), va_rf oa]))], [(gA, .inr (2, [.int n, .ref gB]))], [(gB, .inl (d.2.1 0, 10, .inl near))], (g_FS d af (some f))]) (by simp [g_FS, g_fa, va_rf, List.append_assoc])
    refine h2.post ?_
    rintro v w ⟨rfl, rfl, hq⟩
    exact ⟨_, rfl, af.1 0, af.2.1, af.2.2.1, af.2.2.2, af.1 1, af.1 3, af.1 2, af.1 4, f.1, f.2.1, f.2.2.1, f.2.2.2.1, f.2.2.2.2, rfl, rfl, hq⟩
