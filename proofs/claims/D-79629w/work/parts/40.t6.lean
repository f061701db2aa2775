/-! a new leaf, a new inner node: a tree of one -/
def wp_X6_init_T (a1 : Int32) (Q : g_TC → Prop) : Prop := a1 = nI a1.toNatClampNeg ∧ Q ([a1.toNatClampNeg], (fun _ => none), (fun _ => 0), (fun _ => []))
theorem met_X6_init_T (l : Launch) (hl0 : l.stackTraces = false) (d : g_D) (ob : Nat) (a1 : Int32) (Q : g_TC → Prop) (hw : wp_X6_init_T a1 Q) : g_Met l d yX6_init cX6_init 2 none ({ frames := 2, cells := 0, slots := 0, locals := 33 } : Room) [.ref ob, .int a1] [[(ob, .inr (5, [.int 0, .null]))]] 0 0 (fun v w1 => ∃ (tn tl tr : Nat → Nat) (tc : g_TC), ob = tn a1.toNatClampNeg ∧ v = none ∧ w1 = [g_T d tn tl tr tc] ∧ Q tc) := by
  obtain ⟨e, hq⟩ := hw
  refine (met_X6_init l hl0 d ob a1 True trivial).post ?_
  rintro v w1 ⟨rfl, rfl, -⟩
  refine ⟨[g_T d (fun _ => ob) (fun _ => 0) (fun _ => 0) ([a1.toNatClampNeg], (fun _ => none), (fun _ => 0), (fun _ => []))], ?_, (fun _ => ob), (fun _ => 0), (fun _ => 0), _, rfl, rfl, rfl, hq⟩
  have h1 : g_T d (fun _ => ob) (fun _ => 0) (fun _ => 0) ([a1.toNatClampNeg], (fun _ => none), (fun _ => 0), (fun _ => [])) = [(ob, .inr (5, [.int (nI a1.toNatClampNeg), .null]))] := rfl
  rw [h1, ← e]
def wp_X7_init_T (a1 : Int32) (ki : Nat) (Q : g_TC → Prop) : Prop := a1 = nI a1.toNatClampNeg ∧ ki ≠ 0 ∧ Q ([a1.toNatClampNeg], (fun _ => none), (fun _ => ki), (fun _ => []))
theorem met_X7_init_T (l : Launch) (hl0 : l.stackTraces = false) (d : g_D) (ob : Nat) (a1 : Int32) (ki : Nat) (Q : g_TC → Prop) (hw : wp_X7_init_T a1 ki Q) : g_Met l d yX7_init cX7_init 3 none ({ frames := 4, cells := 1, slots := 3, locals := 72 } : Room) [.ref ob, .int a1, .ref (d.2.2 ki)] [[(ob, .inr (6, [.int 0, .null, .null, .null]))]] 1 3 (fun v w1 => ∃ (tn tl tr : Nat → Nat) (tc : g_TC), ob = tn a1.toNatClampNeg ∧ v = none ∧ w1 = [g_T d tn tl tr tc] ∧ Q tc) := by
  obtain ⟨e, hk, hq⟩ := hw
  refine (met_X7_init l hl0 d ob a1 ki True trivial).post ?_
  rintro v w1 ⟨la, rfl, rfl, -⟩
  refine ⟨[g_T d (fun _ => ob) (fun _ => la) (fun _ => 0) ([a1.toNatClampNeg], (fun _ => none), (fun _ => ki), (fun _ => []))], ?_, (fun _ => ob), (fun _ => la), (fun _ => 0), _, rfl, rfl, rfl, hq⟩
  have h1 : g_T d (fun _ => ob) (fun _ => la) (fun _ => 0) ([a1.toNatClampNeg], (fun _ => none), (fun _ => ki), (fun _ => [])) = [(ob, .inr (6, [.int (nI a1.toNatClampNeg), .null, .ref (d.2.2 ki), .ref la])), (la, .inr (11, [.int 0, .ref (d.2.2 4), .int 0]))] := by
    unfold g_T
    rw [List.flatMap_cons, List.flatMap_nil, List.append_nil, g_tn_inner (c := ([a1.toNatClampNeg], (fun _ => none), (fun _ => ki), (fun _ => []))) hk]
    rfl
  rw [h1, ← e]
  rfl
