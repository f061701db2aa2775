/-! a list's growth; a node more at a place, or at the end -/
theorem g_growO {mc : Int32} {n : Nat} (h : n = 10 ∨ n = 15) {ef : Nat → Option Nat} {tw : va_W} {Q : Nat → (Nat → Option Nat) → Prop} (hel : g_el tw ef) (hq : Q (g_cap (n + 1)) (va_cpy ef (fun _ => none) 0 0 n)) : wp_J10_grow_O mc (nI n) ef n tw Q := by
  unfold wp_J10_grow_O wp_J10_grow_2_O
  rcases h with rfl | rfl
  · refine ⟨fun _ => ⟨fun h => absurd h (by decide), fun _ => ⟨fun h => absurd h (by decide), fun _ => ?_⟩⟩, fun h => absurd h (by decide)⟩
    exact ⟨by decide, by decide, by decide, by decide, by decide, by decide, by decide, hel, hq⟩
  · refine ⟨fun _ => ⟨fun h => absurd h (by decide), fun _ => ⟨fun h => absurd h (by decide), fun _ => ?_⟩⟩, fun h => absurd h (by decide)⟩
    exact ⟨by decide, by decide, by decide, by decide, by decide, by decide, by decide, hel, hq⟩
theorem g_ef_cpy (an : Nat → Nat) (ks : List Nat) : va_cpy (g_ef an ks) (fun _ => none) 0 0 ks.length = g_ef an ks := by
  funext i
  unfold va_cpy g_ef
  by_cases h : i < ks.length
  · rw [if_pos ⟨Nat.zero_le _, by omega⟩]
    simp
  · rw [if_neg (by omega), List.getElem?_eq_none (by omega)]
    rfl
theorem g_ef_at (an : Nat → Nat) (ks : List Nat) (k j : Nat) (hj : j ≤ ks.length) : va_up (va_cpy (g_ef an ks) (g_ef an ks) j (j + 1) (ks.length - j)) j (some (an k)) = g_ef an (ks.take j ++ k :: ks.drop j) := by
  funext i
  unfold va_up va_cpy g_ef
  by_cases h1 : i = j
  · subst h1
    rw [if_pos rfl, List.getElem?_append_right (by simp; omega)]
    simp [Nat.min_eq_left hj]
  · rw [if_neg h1]
    by_cases h2 : i < j
    · rw [if_neg (by omega), List.getElem?_append_left (by simp; omega), List.getElem?_take_of_lt h2]
    · rw [List.getElem?_append_right (by simp; omega)]
      have e1 : i - (ks.take j).length = (i - j - 1) + 1 := by simp; omega
      rw [e1, List.getElem?_cons_succ, List.getElem?_drop]
      by_cases h3 : i < j + 1 + (ks.length - j)
      · rw [if_pos (by omega)]
        congr 2
      · rw [if_neg (by omega), List.getElem?_eq_none (by omega), List.getElem?_eq_none (by omega)]
theorem g_ef_end (an : Nat → Nat) (ks : List Nat) (k : Nat) : va_up (g_ef an ks) ks.length (some (an k)) = g_ef an (ks ++ [k]) := by
  funext i
  unfold va_up g_ef
  by_cases h1 : i = ks.length
  · subst h1
    rw [if_pos rfl, List.getElem?_append_right (Nat.le_refl _)]
    simp
  · rw [if_neg h1]
    by_cases h2 : i < ks.length
    · rw [List.getElem?_append_left h2]
    · rw [List.getElem?_eq_none (by omega), List.getElem?_eq_none (by simp; omega)]
theorem g_cap_eq {n : Nat} (h : n < 22) (e : n = g_cap n) (h0 : n ≠ 0) : n = 10 ∨ n = 15 := by
  unfold g_cap at e
  split at e
  · omega
  · split at e <;> omega
theorem g_cap_ne {n : Nat} (h : n < 22) (e : n ≠ g_cap n) : g_cap (n + 1) = g_cap n ∧ n < g_cap n := by
  unfold g_cap at e ⊢
  split at e <;> (try split at e) <;> split <;> (try split) <;> omega
theorem g_el_ef {tw : va_W} {an : Nat → Nat} {ks : List Nat} (h : ∀ k ∈ ks, g_in tw (an k)) : g_el tw (g_ef an ks) := by
  intro i y hy
  unfold g_ef at hy
  cases hk : ks[i]? with
  | none => rw [hk] at hy; cases hy
  | some k =>
    rw [hk] at hy
    cases hy
    exact h k (List.mem_of_getElem? hk)
def wp_J10_addI_A (i : Int32) (k : Nat) (ks : List Nat) (Q : List Nat → Prop) : Prop := ∃ j, i = nI j ∧ j ≤ ks.length ∧ ks.length < 22 ∧ Q (ks.take j ++ k :: ks.drop j)
theorem met_J10_addI_A (l : Launch) (hl0 : l.stackTraces = false) (d : g_D) (x y : Nat) (an : Nat → Nat) (i : Int32) (k : Nat) (ks : List Nat) (tw : va_W) (hx : g_in tw (an k)) (hel : ∀ k' ∈ ks, g_in tw (an k')) (Q : List Nat → Prop) (hw : wp_J10_addI_A i k ks Q) :
    g_Met l d yJ10_add_3 cJ10_add_3 5 none ({ frames := 5, cells := 1, slots := 22, locals := 119 } : Room) [.ref x, .int i, .ref (an k)] [g_AL d x y an ks, tw] 1 22 (fun v w1 => ∃ (y2 : Nat) (ks2 : List Nat), v = none ∧ w1 = [g_AL d x y2 an ks2, tw] ∧ Q ks2) := by
  obtain ⟨j, rfl, hj, hlen, hq⟩ := hw
  have hc1 : ¬ nI ks.length < nI j := nI_nlt (by omega) (by omega)
  have hsub : nI ks.length - nI j = nI (ks.length - j) := pk_sub hj
  by_cases h0 : ks = []
  · subst h0
    have e0 : j = 0 := by simpa using hj
    subst e0
    have hw1 : wp_J10_add_3_ET (nI 0) (an k) 0 tw (fun c2 e2 s2 m2 => c2 = 10 ∧ e2 = g_ef an [k] ∧ s2 = 1 ∧ m2 = 1) := by
      refine ⟨fun h => absurd h (by decide), fun _ => ⟨fun _ => ?_, fun h => absurd (by decide) h⟩⟩
      refine ⟨by decide, by decide, ?_⟩
      refine ⟨by decide, by decide, by decide, by decide, by decide, (fun i y h => by cases h), (by unfold vp_in; decide), ?_⟩
      refine ⟨by decide, ?_, by decide, by decide⟩
      have h9 := g_ef_at an [] k 0 (Nat.le_refl _)
      exact h9
    refine (met_J10_add_3_ET l hl0 d x (nI 0) (an k) 0 tw hx _ hw1).post ?_
    rintro v w1 ⟨ed2, c2, e2, s2, m2, rfl, rfl, rfl, rfl, rfl, rfl⟩
    exact ⟨[g_AL d x ed2 an [k], tw], rfl, ed2, [k], rfl, rfl, hq⟩
  · have hn0 : ks.length ≠ 0 := fun e => h0 (List.length_eq_zero_iff.mp e)
    have hg := g_el_ef hel
    have hcap := g_cap_le ks.length (by omega)
    have hl2 : (ks.take j ++ k :: ks.drop j).length = ks.length + 1 := by simp; omega
    have hne2 : ks.take j ++ k :: ks.drop j ≠ [] := by simp
    have hw1 : wp_J10_add_3_OT (nI j) (an k) (nI ks.length) (nI ks.length) (g_ef an ks) (g_cap ks.length) tw (fun c2 e2 s2 m2 => c2 = g_cap (ks.length + 1) ∧ e2 = g_ef an (ks.take j ++ k :: ks.drop j) ∧ s2 = nI (ks.length + 1) ∧ m2 = nI (ks.length + 1)) := by
      refine ⟨fun h => absurd h hc1, fun _ => ⟨fun _ => ⟨fun hne => ?_, fun he => ?_⟩, fun h => absurd (nI_pos' (by omega)) h⟩⟩
      · have hne' : ks.length ≠ g_cap ks.length := fun z => hne (by rw [← z])
        obtain ⟨hc2, hc3⟩ := g_cap_ne hlen hne'
        rw [hsub, nI_1, nI_1]
        refine ⟨nI_pos (by omega), nI_pos (by omega), nI_pos (by omega), ?_, ?_, hg, vp_in_nI (by omega) (by omega), hc2.symm, ?_, rfl, rfl⟩
        · rw [nI_clamp (by omega), nI_clamp (by omega)]; omega
        · rw [nI_clamp (by omega), nI_clamp (by omega)]; omega
        · rw [nI_clamp (by omega), nI_clamp (by omega), nI_clamp (by omega)]
          exact g_ef_at an ks k j hj
      · have he' := (nI_eq (by omega) (by omega)).mp he
        have h1015 := g_cap_eq hlen he' hn0
        rw [← he', hsub, nI_1, nI_1]
        refine g_growO h1015 hg ?_
        rw [g_ef_cpy]
        have hc4 : ks.length < g_cap (ks.length + 1) ∧ g_cap (ks.length + 1) < 23 := by
          have := g_cap_le (ks.length + 1) (by omega)
          omega
        refine ⟨nI_pos (by omega), nI_pos (by omega), nI_pos (by omega), ?_, ?_, hg, vp_in_nI (by omega) (by omega), rfl, ?_, rfl, rfl⟩
        · rw [nI_clamp (by omega), nI_clamp (by omega)]; omega
        · rw [nI_clamp (by omega), nI_clamp (by omega)]; omega
        · rw [nI_clamp (by omega), nI_clamp (by omega), nI_clamp (by omega)]
          exact g_ef_at an ks k j hj
    have h := met_J10_add_3_OT l hl0 d x (nI j) (an k) (nI ks.length) y (nI ks.length) (g_ef an ks) (g_cap ks.length) tw hx _ hw1
    rw [g_AL_cons d x y an h0]
    refine (h.fl (wc' := [[(x, .inr (11, [.int (nI ks.length), .ref y, .int (nI ks.length)])), (y, .inl (d.2.1 6, g_cap ks.length, .inr (.inr (.inr (.inr (g_ef an ks))))))], tw]) rfl).post ?_
    rintro v w1 ⟨ed2, c2, e2, s2, m2, rfl, rfl, rfl, rfl, rfl, rfl⟩
    refine ⟨[g_AL d x ed2 an (ks.take j ++ k :: ks.drop j), tw], ?_, ed2, _, rfl, rfl, hq⟩
    rw [g_AL_cons d x ed2 an hne2, hl2]
    rfl
