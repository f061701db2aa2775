theorem g_flatMap_congr {α β : Type} {l : List α} {f g : α → List β} (h : ∀ a ∈ l, f a = g a) : l.flatMap f = l.flatMap g := by
  induction l with
  | nil => rfl
  | cons a l ih => rw [List.flatMap_cons, List.flatMap_cons, h a List.mem_cons_self, ih fun b hb => h b (List.mem_cons_of_mem _ hb)]
/-! a node's child more -/
theorem met_X7_add_M (l : Launch) (hl0 : l.stackTraces = false) (d : g_D) (x la y : Nat) (an : Nat → Nat) (ts : Int32) (tp : Option Nat) (tk k : Nat) (ks : List Nat) (tw : va_W) (ci : Nat) (fs : List Value) (hci : (ci = 5 ∧ ∃ (xs : Int32) (xp : Option Nat), fs = [.int xs, va_rf xp]) ∨ (ci = 6 ∧ ∃ (xs : Int32) (xp : Option Nat) (xk xc : Nat), fs = [.int xs, va_rf xp, .ref (d.2.2 xk), .ref xc])) (hel : ∀ k' ∈ ks, g_in tw (an k')) (hlen : ks.length < 22) :
    g_Met l d yX7_add cX7_add 2 none ({ frames := 7, cells := 1, slots := 22, locals := 163 } : Room) [.ref x, .ref (an k)] [[(x, .inr (6, [.int ts, va_rf tp, .ref (d.2.2 tk), .ref la]))], g_AL d la y an ks, tw, [(an k, .inr (ci, fs))]] 1 22 (fun v w1 => ∃ (y2 : Nat), v = none ∧ w1 = [[(x, .inr (6, [.int ts, va_rf tp, .ref (d.2.2 tk), .ref la]))], g_AL d la y2 an (ks ++ [k]), tw, [(an k, .inr (ci, fs.set 1 (.ref x)))]]) := by
  have hg := g_el_ef hel
  by_cases h0 : ks = []
  · subst h0
    have e3 : va_up (fun _ => none) (0 : Int32).toNatClampNeg (some (an k)) = g_ef an [k] := g_ef_end an [] k
    rcases hci with ⟨rfl, xs, xp, rfl⟩ | ⟨rfl, xs, xp, xk, xc, rfl⟩
    · have hw1 : wp_X7_add_EL (an k) 0 tw (fun c2 e2 s2 m2 => c2 = 10 ∧ e2 = g_ef an [k] ∧ s2 = 1 ∧ m2 = 1) := by
        refine ⟨by decide, by decide, ?_⟩
        exact ⟨by unfold vp_in; decide, by decide, e3, by decide, by decide⟩
      refine (met_X7_add_EL l hl0 d x (an k) ts tp tk la 0 tw xs xp _ hw1).post ?_
      rintro v w1 ⟨ed2, c2, e2, s2, m2, rfl, rfl, rfl, rfl, rfl, rfl⟩
      exact ⟨[[(x, .inr (6, [.int ts, va_rf tp, .ref (d.2.2 tk), .ref la]))], g_AL d la ed2 an [k], tw, [(an k, .inr (5, [.int xs, .ref x]))]], rfl, ed2, rfl, rfl⟩
    · have hw1 : wp_X7_add_EI (an k) 0 tw (fun c2 e2 s2 m2 => c2 = 10 ∧ e2 = g_ef an [k] ∧ s2 = 1 ∧ m2 = 1) := by
        refine ⟨by decide, by decide, ?_⟩
        exact ⟨by unfold vp_in; decide, by decide, e3, by decide, by decide⟩
      refine (met_X7_add_EI l hl0 d x (an k) ts tp tk la 0 tw xs xp xk xc _ hw1).post ?_
      rintro v w1 ⟨ed2, c2, e2, s2, m2, rfl, rfl, rfl, rfl, rfl, rfl⟩
      exact ⟨[[(x, .inr (6, [.int ts, va_rf tp, .ref (d.2.2 tk), .ref la]))], g_AL d la ed2 an [k], tw, [(an k, .inr (6, [.int xs, .ref x, .ref (d.2.2 xk), .ref xc]))]], rfl, ed2, rfl, rfl⟩
  · have hn0 : ks.length ≠ 0 := fun e => h0 (List.length_eq_zero_iff.mp e)
    have hcap := g_cap_le ks.length (by omega)
    have hl2 : (ks ++ [k]).length = ks.length + 1 := by simp
    have hne2 : ks ++ [k] ≠ [] := by simp
    have key : wp_J10_add_OL (an k) (nI ks.length) (nI ks.length) (g_ef an ks) (g_cap ks.length) tw (fun _ c2 e2 s2 m2 => c2 = g_cap (ks.length + 1) ∧ e2 = g_ef an (ks ++ [k]) ∧ s2 = nI (ks.length + 1) ∧ m2 = nI (ks.length + 1)) := by
      refine ⟨fun hne => ?_, fun he => ?_⟩
      · have hne' : ks.length ≠ g_cap ks.length := fun z => hne (by rw [← z])
        obtain ⟨hc2, hc3⟩ := g_cap_ne hlen hne'
        rw [nI_1]
        refine ⟨vp_in_nI (by omega) (by omega), hc2.symm, ?_, rfl, rfl⟩
        rw [nI_clamp (by omega)]
        exact g_ef_end an ks k
      · have he' := (nI_eq (by omega) (by omega)).mp he
        have h1015 := g_cap_eq hlen he' hn0
        rw [← he', nI_1]
        refine g_growO h1015 hg ?_
        rw [g_ef_cpy]
        have hc4 : ks.length < g_cap (ks.length + 1) ∧ g_cap (ks.length + 1) < 23 := by
          have := g_cap_le (ks.length + 1) (by omega)
          omega
        refine ⟨vp_in_nI (by omega) (by omega), rfl, ?_, rfl, rfl⟩
        rw [nI_clamp (by omega)]
        exact g_ef_end an ks k
    rw [g_AL_cons d la y an h0]
    rcases hci with ⟨rfl, xs, xp, rfl⟩ | ⟨rfl, xs, xp, xk, xc, rfl⟩
    · have h := met_X7_add_OL l hl0 d x (an k) ts tp tk la (nI ks.length) y (nI ks.length) (g_ef an ks) (g_cap ks.length) tw xs xp _ key
      refine (h.fl (wc' := [[(x, .inr (6, [.int ts, va_rf tp, .ref (d.2.2 tk), .ref la]))], [(la, .inr (11, [.int (nI ks.length), .ref y, .int (nI ks.length)])), (y, .inl (d.2.1 6, g_cap ks.length, .inr (.inr (.inr (.inr (g_ef an ks))))))], tw, [(an k, .inr (5, [.int xs, va_rf xp]))]]) rfl).post ?_
      rintro v w1 ⟨ed2, c2, e2, s2, m2, rfl, rfl, rfl, rfl, rfl, rfl⟩
      refine ⟨[[(x, .inr (6, [.int ts, va_rf tp, .ref (d.2.2 tk), .ref la]))], g_AL d la ed2 an (ks ++ [k]), tw, [(an k, .inr (5, [.int xs, .ref x]))]], ?_, ed2, rfl, rfl⟩
      rw [g_AL_cons d la ed2 an hne2, hl2]
      rfl
    · have h := met_X7_add_OI l hl0 d x (an k) ts tp tk la (nI ks.length) y (nI ks.length) (g_ef an ks) (g_cap ks.length) tw xs xp xk xc (fun c2 e2 s2 m2 => c2 = g_cap (ks.length + 1) ∧ e2 = g_ef an (ks ++ [k]) ∧ s2 = nI (ks.length + 1) ∧ m2 = nI (ks.length + 1)) key
      refine (h.fl (wc' := [[(x, .inr (6, [.int ts, va_rf tp, .ref (d.2.2 tk), .ref la]))], [(la, .inr (11, [.int (nI ks.length), .ref y, .int (nI ks.length)])), (y, .inl (d.2.1 6, g_cap ks.length, .inr (.inr (.inr (.inr (g_ef an ks))))))], tw, [(an k, .inr (6, [.int xs, va_rf xp, .ref (d.2.2 xk), .ref xc]))]]) rfl).post ?_
      rintro v w1 ⟨ed2, c2, e2, s2, m2, rfl, rfl, rfl, rfl, rfl, rfl⟩
      refine ⟨[[(x, .inr (6, [.int ts, va_rf tp, .ref (d.2.2 tk), .ref la]))], g_AL d la ed2 an (ks ++ [k]), tw, [(an k, .inr (6, [.int xs, .ref x, .ref (d.2.2 xk), .ref xc]))]], ?_, ed2, rfl, rfl⟩
      rw [g_AL_cons d la ed2 an hne2, hl2]
      rfl
/-- the tree c with the tree c2, whose root is ch, below its node S -/
def g_tadd (S ch : Nat) (c c2 : g_TC) : g_TC :=
  (c.1 ++ c2.1, fun k => if k = ch then some S else if k ∈ c2.1 then c2.2.1 k else c.2.1 k, fun k => if k ∈ c2.1 then c2.2.2.1 k else c.2.2.1 k, fun k => if k = S then c.2.2.2 S ++ [ch] else if k ∈ c2.1 then c2.2.2.2 k else c.2.2.2 k)
/-- whom a node names is a node -/
def g_tok (c : g_TC) : Prop := ∀ k ∈ c.1, (∀ p, c.2.1 k = some p → p ∈ c.1) ∧ ∀ k' ∈ c.2.2.2 k, k' ∈ c.1
def wp_X7_add_T (S ch : Nat) (c c2 : g_TC) (Q : g_TC → Prop) : Prop :=
  (∃ L, c.1 = S :: L ∧ S ∉ L ∧ ∀ k' ∈ c.2.2.2 S, k' ∈ L) ∧ (∃ L2, c2.1 = ch :: L2 ∧ ch ∉ L2) ∧ g_tok c ∧ g_tok c2 ∧ (∀ k ∈ c2.1, k ∉ c.1) ∧ c.2.2.1 S ≠ 0 ∧ (c.2.2.2 S).length < 22 ∧ Q (g_tadd S ch c c2)
theorem g_AL_congr {d : g_D} {x y x' y' : Nat} {an an' : Nat → Nat} {ks : List Nat} (hx : x = x') (hy : y = y') (h : ∀ k ∈ ks, an k = an' k) : g_AL d x y an ks = g_AL d x' y' an' ks := by
  subst hx; subst hy
  have he : g_ef an ks = g_ef an' ks := by
    funext i
    unfold g_ef
    cases hi : ks[i]? with
    | none => rfl
    | some k => simp [h k (List.mem_of_getElem? hi)]
  cases ks with
  | nil => rfl
  | cons k l =>
    rw [g_AL_cons d x y an (List.cons_ne_nil k l), g_AL_cons d x y an' (List.cons_ne_nil k l), he]
theorem g_tn_congr {d : g_D} {tn tl tr tn' tl' tr' : Nat → Nat} {c c' : g_TC} {k : Nat} (h1 : tn k = tn' k) (h2 : tl k = tl' k) (h3 : tr k = tr' k) (hp : c.2.1 k = c'.2.1 k) (hd : c.2.2.1 k = c'.2.2.1 k) (hk : c.2.2.2 k = c'.2.2.2 k) (hpa : ∀ p, c.2.1 k = some p → tn p = tn' p) (hki : ∀ k' ∈ c.2.2.2 k, tn k' = tn' k') : g_tn d tn tl tr c k = g_tn d tn' tl' tr' c' k := by
  have e1 : (c.2.1 k).map tn = (c'.2.1 k).map tn' := by
    rw [← hp]
    cases h : c.2.1 k with
    | none => rfl
    | some p => simp [hpa p h]
  have e2 : g_AL d (tl k) (tr k) tn (c.2.2.2 k) = g_AL d (tl' k) (tr' k) tn' (c'.2.2.2 k) := by
    rw [← hk]
    exact g_AL_congr h2 h3 hki
  unfold g_tn
  rw [e1, e2, h1, h2, hd]

def g_mg (L : List Nat) (f g : Nat → Nat) : Nat → Nat := fun k => if k ∈ L then f k else g k
theorem g_mg_in {L : List Nat} {f g : Nat → Nat} {k : Nat} (h : k ∈ L) : g_mg L f g k = f k := if_pos h
theorem g_mg_out {L : List Nat} {f g : Nat → Nat} {k : Nat} (h : k ∉ L) : g_mg L f g k = g k := if_neg h
theorem met_X7_add_T (l : Launch) (hl0 : l.stackTraces = false) (d : g_D) (S ch : Nat) (tn tl tr : Nat → Nat) (c : g_TC) (tn2 tl2 tr2 : Nat → Nat) (c2 : g_TC) (Q : g_TC → Prop) (hw : wp_X7_add_T S ch c c2 Q) :
    g_Met l d yX7_add cX7_add 2 none ({ frames := 7, cells := 1, slots := 22, locals := 163 } : Room) [.ref (tn S), .ref (tn2 ch)] [g_T d tn tl tr c, g_T d tn2 tl2 tr2 c2] 1 22 (fun v w1 => ∃ (tn3 tl3 tr3 : Nat → Nat) (c3 : g_TC), tn S = tn3 S ∧ v = none ∧ w1 = [g_T d tn3 tl3 tr3 c3] ∧ Q c3) := by
  obtain ⟨⟨L, e1, hSL, hkL⟩, ⟨L2, e2, hcL2⟩, hok, hok2, hdis, hkS, hlen, hq⟩ := hw
  have hS1 : S ∈ c.1 := by rw [e1]; exact List.mem_cons_self
  have hc2 : ch ∈ c2.1 := by rw [e2]; exact List.mem_cons_self
  have hS2 : S ∉ c2.1 := fun h => hdis S h hS1
  have hne : S ≠ ch := fun h => hS2 (h ▸ hc2)
  have hL1 : ∀ k ∈ L, k ∈ c.1 := fun k h => by rw [e1]; exact List.mem_cons_of_mem _ h
  have hL2 : ∀ k ∈ L2, k ∈ c2.1 := fun k h => by rw [e2]; exact List.mem_cons_of_mem _ h
  have hn1 : ∀ k ∈ c.1, k ∉ c2.1 := fun k h h2 => hdis k h2 h
  -- the merged addresses
  have t1 : ∀ k ∈ c.1, g_mg c2.1 tn2 tn k = tn k := fun k h => g_mg_out (hn1 k h)
  have t2 : ∀ k ∈ c2.1, g_mg c2.1 tn2 tn k = tn2 k := fun k h => g_mg_in h
  have f1 : L.flatMap (g_tn d tn tl tr c) = L.flatMap (g_tn d (g_mg c2.1 tn2 tn) (g_mg c2.1 tl2 tl) (g_mg c2.1 tr2 tr) (g_tadd S ch c c2)) := by
    refine g_flatMap_congr fun k hk => ?_
    have hk1 := hL1 k hk
    have hk2 := hn1 k hk1
    have hkc : k ≠ ch := fun h => hk2 (h ▸ hc2)
    have hkS' : k ≠ S := fun h => hSL (h ▸ hk)
    refine g_tn_congr (t1 k hk1).symm (g_mg_out hk2).symm (g_mg_out hk2).symm ?_ ?_ ?_ (fun p hp => (t1 p ((hok k hk1).1 p hp)).symm) (fun k' hk' => (t1 k' ((hok k hk1).2 k' hk')).symm)
    · show c.2.1 k = if k = ch then some S else if k ∈ c2.1 then c2.2.1 k else c.2.1 k
      rw [if_neg hkc, if_neg hk2]
    · show c.2.2.1 k = if k ∈ c2.1 then c2.2.2.1 k else c.2.2.1 k
      rw [if_neg hk2]
    · show c.2.2.2 k = if k = S then c.2.2.2 S ++ [ch] else if k ∈ c2.1 then c2.2.2.2 k else c.2.2.2 k
      rw [if_neg hkS', if_neg hk2]
  have f2 : L2.flatMap (g_tn d tn2 tl2 tr2 c2) = L2.flatMap (g_tn d (g_mg c2.1 tn2 tn) (g_mg c2.1 tl2 tl) (g_mg c2.1 tr2 tr) (g_tadd S ch c c2)) := by
    refine g_flatMap_congr fun k hk => ?_
    have hk1 := hL2 k hk
    have hkc : k ≠ ch := fun h => hcL2 (h ▸ hk)
    have hkS' : k ≠ S := fun h => hS2 (h ▸ hk1)
    refine g_tn_congr (t2 k hk1).symm (g_mg_in hk1).symm (g_mg_in hk1).symm ?_ ?_ ?_ (fun p hp => (t2 p ((hok2 k hk1).1 p hp)).symm) (fun k' hk' => (t2 k' ((hok2 k hk1).2 k' hk')).symm)
    · show c2.2.1 k = if k = ch then some S else if k ∈ c2.1 then c2.2.1 k else c.2.1 k
      rw [if_neg hkc, if_pos hk1]
    · show c2.2.2.1 k = if k ∈ c2.1 then c2.2.2.1 k else c.2.2.1 k
      rw [if_pos hk1]
    · show c2.2.2.2 k = if k = S then c.2.2.2 S ++ [ch] else if k ∈ c2.1 then c2.2.2.2 k else c.2.2.2 k
      rw [if_neg hkS', if_pos hk1]
  have hel : ∀ k' ∈ c.2.2.2 S, g_in (L.flatMap (g_tn d tn tl tr c)) (g_mg c2.1 tn2 tn k') := by
    intro k' hk'
    have h1 := hkL k' hk'
    rw [t1 k' (hL1 k' h1)]
    by_cases h : c.2.2.1 k' = 0
    · exact ⟨5, _, List.mem_flatMap.mpr ⟨k', h1, by rw [g_tn_leaf h]; exact List.mem_cons_self⟩, Or.inl rfl⟩
    · exact ⟨6, _, List.mem_flatMap.mpr ⟨k', h1, by rw [g_tn_inner h]; exact List.mem_cons_self⟩, Or.inr rfl⟩
  -- the child's own cells
  have hch : ∃ (ci : Nat) (fs : List Value) (own : va_W), ((ci = 5 ∧ ∃ (xs : Int32) (xp : Option Nat), fs = [.int xs, va_rf xp]) ∨ (ci = 6 ∧ ∃ (xs : Int32) (xp : Option Nat) (xk xc : Nat), fs = [.int xs, va_rf xp, .ref (d.2.2 xk), .ref xc])) ∧ g_tn d tn2 tl2 tr2 c2 ch = (tn2 ch, .inr (ci, fs)) :: own ∧ g_tn d (g_mg c2.1 tn2 tn) (g_mg c2.1 tl2 tl) (g_mg c2.1 tr2 tr) (g_tadd S ch c c2) ch = (tn2 ch, .inr (ci, fs.set 1 (.ref (tn S)))) :: own := by
    have q1 : (g_tadd S ch c c2).2.1 ch = some S := if_pos rfl
    have q2 : (g_tadd S ch c c2).2.2.1 ch = c2.2.2.1 ch := if_pos hc2
    have q3 : (g_tadd S ch c c2).2.2.2 ch = c2.2.2.2 ch := by
      show (if ch = S then c.2.2.2 S ++ [ch] else if ch ∈ c2.1 then c2.2.2.2 ch else c.2.2.2 ch) = _
      rw [if_neg (Ne.symm hne), if_pos hc2]
    have q4 : ((g_tadd S ch c c2).2.1 ch).map (g_mg c2.1 tn2 tn) = some (tn S) := by rw [q1]; simp [t1 S hS1]
    by_cases h : c2.2.2.1 ch = 0
    · refine ⟨5, _, [], Or.inl ⟨rfl, _, _, rfl⟩, g_tn_leaf h, ?_⟩
      rw [g_tn_leaf (by rw [q2]; exact h), q4, t2 ch hc2]
      rfl
    · refine ⟨6, _, _, Or.inr ⟨rfl, _, _, _, _, rfl⟩, g_tn_inner h, ?_⟩
      rw [g_tn_inner (by rw [q2]; exact h), q4, t2 ch hc2, q2, q3, g_mg_in (f := tl2) (g := tl) hc2, g_mg_in (f := tr2) (g := tr) hc2]
      rw [g_AL_congr rfl rfl (fun k' hk' => t2 k' ((hok2 ch hc2).2 k' hk'))]
      rfl
  obtain ⟨ci, fs, ow, hci, ho1, ho2⟩ := hch
  have hm := met_X7_add_M l hl0 d (tn S) (tl S) (tr S) (g_mg c2.1 tn2 tn) (nI S) ((c.2.1 S).map tn) (c.2.2.1 S) ch (c.2.2.2 S) (L.flatMap (g_tn d tn tl tr c)) ci fs hci hel hlen
  rw [t2 ch hc2] at hm
  have hAL : g_AL d (tl S) (tr S) (g_mg c2.1 tn2 tn) (c.2.2.2 S) = g_AL d (tl S) (tr S) tn (c.2.2.2 S) := g_AL_congr rfl rfl (fun k' hk' => t1 k' ((hok S hS1).2 k' hk'))
  rw [hAL] at hm
  refine hm.fr (wr := [ow, L2.flatMap (g_tn d tn2 tl2 tr2 c2)]) ?_ ?_
  · have g1 : g_T d tn tl tr c = ((tn S, .inr (6, [.int (nI S), va_rf ((c.2.1 S).map tn), .ref (d.2.2 (c.2.2.1 S)), .ref (tl S)])) :: g_AL d (tl S) (tr S) tn (c.2.2.2 S)) ++ L.flatMap (g_tn d tn tl tr c) := by
      unfold g_T
      rw [e1, List.flatMap_cons, g_tn_inner hkS]
    have g2 : g_T d tn2 tl2 tr2 c2 = ((tn2 ch, .inr (ci, fs)) :: ow) ++ L2.flatMap (g_tn d tn2 tl2 tr2 c2) := by
      unfold g_T
      rw [e2, List.flatMap_cons, ho1]
    rw [g1, g2]
    simp only [List.cons_append, List.nil_append, List.flatten_cons, List.flatten_nil, List.append_nil, List.append_assoc]
    exact List.Perm.refl _
  · rintro v w1 ⟨y2, rfl, rfl⟩
    refine ⟨[g_T d (g_mg c2.1 tn2 tn) (g_mg c2.1 tl2 tl) (fun k => if k = S then y2 else g_mg c2.1 tr2 tr k) (g_tadd S ch c c2)], ?_, g_mg c2.1 tn2 tn, g_mg c2.1 tl2 tl, (fun k => if k = S then y2 else g_mg c2.1 tr2 tr k), g_tadd S ch c c2, (t1 S hS1).symm, rfl, rfl, hq⟩
    have r1 : ∀ k, k ≠ S → g_tn d (g_mg c2.1 tn2 tn) (g_mg c2.1 tl2 tl) (fun k => if k = S then y2 else g_mg c2.1 tr2 tr k) (g_tadd S ch c c2) k = g_tn d (g_mg c2.1 tn2 tn) (g_mg c2.1 tl2 tl) (g_mg c2.1 tr2 tr) (g_tadd S ch c c2) k := fun k hk =>
      g_tn_congr rfl rfl (if_neg hk) rfl rfl rfl (fun _ _ => rfl) (fun _ _ => rfl)
    have r2 : ∀ M : List Nat, S ∉ M → M.flatMap (g_tn d (g_mg c2.1 tn2 tn) (g_mg c2.1 tl2 tl) (fun k => if k = S then y2 else g_mg c2.1 tr2 tr k) (g_tadd S ch c c2)) = M.flatMap (g_tn d (g_mg c2.1 tn2 tn) (g_mg c2.1 tl2 tl) (g_mg c2.1 tr2 tr) (g_tadd S ch c c2)) := fun M hM =>
      g_flatMap_congr fun k hk => r1 k (fun h => hM (h ▸ hk))
    have s1 : (g_tadd S ch c c2).2.1 S = c.2.1 S := by
      show (if S = ch then some S else if S ∈ c2.1 then c2.2.1 S else c.2.1 S) = _
      rw [if_neg hne, if_neg hS2]
    have s2 : (g_tadd S ch c c2).2.2.1 S = c.2.2.1 S := by
      show (if S ∈ c2.1 then c2.2.2.1 S else c.2.2.1 S) = _
      rw [if_neg hS2]
    have s3 : (g_tadd S ch c c2).2.2.2 S = c.2.2.2 S ++ [ch] := if_pos rfl
    have s4 : (c.2.1 S).map (g_mg c2.1 tn2 tn) = (c.2.1 S).map tn := by
      cases h : c.2.1 S with
      | none => rfl
      | some p => simp [t1 p ((hok S hS1).1 p h)]
    have hfin : g_T d (g_mg c2.1 tn2 tn) (g_mg c2.1 tl2 tl) (fun k => if k = S then y2 else g_mg c2.1 tr2 tr k) (g_tadd S ch c c2) =
        ((tn S, .inr (6, [.int (nI S), va_rf ((c.2.1 S).map tn), .ref (d.2.2 (c.2.2.1 S)), .ref (tl S)])) :: g_AL d (tl S) y2 (g_mg c2.1 tn2 tn) (c.2.2.2 S ++ [ch])) ++ (L.flatMap (g_tn d tn tl tr c) ++ (((tn2 ch, .inr (ci, fs.set 1 (.ref (tn S)))) :: ow) ++ L2.flatMap (g_tn d tn2 tl2 tr2 c2))) := by
      unfold g_T
      rw [show (g_tadd S ch c c2).1 = S :: (L ++ ch :: L2) by show c.1 ++ c2.1 = _; rw [e1, e2]; rfl, List.flatMap_cons, List.flatMap_append, List.flatMap_cons, r2 L hSL, r2 L2 (fun h => hS2 (hL2 S h)), r1 ch (Ne.symm hne), ← f1, ← f2, ho2, g_tn_inner (by rw [s2]; exact hkS), s1, s2, s3, s4, t1 S hS1, g_mg_out (f := tl2) (g := tl) hS2, if_pos rfl]
    rw [List.flatten_cons, List.flatten_nil, List.append_nil, hfin]
    simp only [List.cons_append, List.nil_append, List.flatten_cons, List.flatten_nil, List.append_nil, List.append_assoc]
    exact List.Perm.refl _
