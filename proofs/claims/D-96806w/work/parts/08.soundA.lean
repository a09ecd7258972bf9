/-! SOUNDNESS of the abstract machine over the kit's rows -/
section MXV
variable {g g' : Nat → Option Nat} {x : Nat → Nat → Prop}
/-- an abstract value against a machine's: g the addresses of places, x those of the special references -/
def mx_V (g : Nat → Option Nat) (x : Nat → Nat → Prop) (v v' : Value) : Prop := match v with
  | .ref p => ∃ a, v' = .ref a ∧ g p = some a
  | .float n => ∃ a, v' = .ref a ∧ x n.toNat a
  | .double _ => False
  | w => v' = w
def mx_VL (g : Nat → Option Nat) (x : Nat → Nat → Prop) : List Value → List Value → Prop
  | [], l => l = []
  | v :: vs, l => ∃ v' vs', l = v' :: vs' ∧ mx_V g x v v' ∧ mx_VL g x vs vs'
def mx_O1 (g : Nat → Option Nat) (x : Nat → Nat → Prop) (a a' : Option Value) : Prop := match a with
  | none => a' = none
  | some v => ∃ v', a' = some v' ∧ mx_V g x v v'
def mx_OL (g : Nat → Option Nat) (x : Nat → Nat → Prop) : mx_L → mx_L → Prop
  | [], l => l = []
  | a :: as, l => ∃ a' as', l = a' :: as' ∧ mx_O1 g x a a' ∧ mx_OL g x as as'
theorem mx_V.mono (hg : ∀ p a, g p = some a → g' p = some a) {v v' : Value} (h : mx_V g x v v') : mx_V g' x v v' := by
  cases v with
  | ref p => obtain ⟨a, h1, h2⟩ := h; exact ⟨a, h1, hg _ _ h2⟩
  | _ => exact h
theorem mx_VL.mono (hg : ∀ p a, g p = some a → g' p = some a) : ∀ {l l' : List Value}, mx_VL g x l l' → mx_VL g' x l l'
  | [], _, h => h
  | _ :: _, _, ⟨v', vs', h1, h2, h3⟩ => ⟨v', vs', h1, h2.mono hg, mx_VL.mono hg h3⟩
theorem mx_OL.mono (hg : ∀ p a, g p = some a → g' p = some a) : ∀ {l l' : mx_L}, mx_OL g x l l' → mx_OL g' x l l'
  | [], _, h => h
  | none :: _, _, ⟨v', vs', h1, h2, h3⟩ => ⟨v', vs', h1, h2, mx_OL.mono hg h3⟩
  | some _ :: _, _, ⟨v', vs', h1, ⟨w, h2, h4⟩, h3⟩ => ⟨v', vs', h1, ⟨w, h2, h4.mono hg⟩, mx_OL.mono hg h3⟩
theorem mx_V.wd {v v' : Value} (h : mx_V g x v v') : mx_wd v' = mx_wd v := by
  cases v with
  | ref p => obtain ⟨a, h1, -⟩ := h; rw [h1]; rfl
  | float n => obtain ⟨a, h1, -⟩ := h; rw [h1]; rfl
  | double _ => exact h.elim
  | _ => rw [show v' = _ from h]
theorem mx_wd_cat (v : Value) : v.category = if mx_wd v then 2 else 1 := by cases v <;> rfl
theorem mx_V.cat {v v' : Value} (h : mx_V g x v v') : v'.category = v.category := by rw [mx_wd_cat, mx_wd_cat, h.wd]
theorem mx_csz_cons (v : Value) (r : List Value) : mx_csz (v :: r) = v.category + mx_csz r := by simp [mx_csz]
theorem mx_VL.csz : ∀ {l l' : List Value}, mx_VL g x l l' → mx_csz l' = mx_csz l
  | [], _, h => by cases h; rfl
  | _ :: _, _, ⟨v', vs', h1, h2, h3⟩ => by
    subst h1
    rw [mx_csz_cons, mx_csz_cons, h2.cat, mx_VL.csz h3]
theorem mx_VL.len : ∀ {l l' : List Value}, mx_VL g x l l' → l'.length = l.length
  | [], _, h => by cases h; rfl
  | _ :: _, _, ⟨v', vs', h1, _, h3⟩ => by subst h1; simp [mx_VL.len h3]
theorem mx_VL.app : ∀ {l l' k k' : List Value}, mx_VL g x l l' → mx_VL g x k k' → mx_VL g x (l ++ k) (l' ++ k')
  | [], _, _, _, h, h2 => by cases h; exact h2
  | _ :: _, _, _, _, ⟨v', vs', h1, h2, h3⟩, h4 => by subst h1; exact ⟨v', _, rfl, h2, mx_VL.app h3 h4⟩
theorem mx_VL.rev : ∀ {l l' : List Value}, mx_VL g x l l' → mx_VL g x l.reverse l'.reverse
  | [], _, h => by cases h; rfl
  | _ :: _, _, ⟨v', vs', h1, h2, h3⟩ => by
    subst h1
    rw [List.reverse_cons, List.reverse_cons]
    exact (mx_VL.rev h3).app ⟨v', [], rfl, h2, rfl⟩
theorem mx_VL.take : ∀ {l l' : List Value} (n : Nat), mx_VL g x l l' → mx_VL g x (l.take n) (l'.take n)
  | [], _, n, h => by cases h; simp [mx_VL]
  | _ :: _, _, 0, _ => rfl
  | _ :: _, _, n + 1, ⟨v', vs', h1, h2, h3⟩ => by subst h1; exact ⟨v', _, rfl, h2, mx_VL.take n h3⟩
theorem mx_VL.drop : ∀ {l l' : List Value} (n : Nat), mx_VL g x l l' → mx_VL g x (l.drop n) (l'.drop n)
  | [], _, n, h => by cases h; simp [mx_VL]
  | _ :: _, _, 0, h => h
  | _ :: _, _, n + 1, ⟨v', vs', h1, h2, h3⟩ => by subst h1; exact mx_VL.drop n h3
theorem mx_VL.at : ∀ {l l' : List Value} (n : Nat) {v : Value}, mx_VL g x l l' → l[n]? = some v → ∃ v', l'[n]? = some v' ∧ mx_V g x v v'
  | [], _, n, _, _, h => by simp at h
  | _ :: _, _, 0, _, ⟨v', vs', h1, h2, _⟩, h => by subst h1; cases h; exact ⟨v', rfl, h2⟩
  | _ :: _, _, n + 1, _, ⟨v', vs', h1, _, h3⟩, h => by subst h1; exact mx_VL.at n h3 (by simpa using h)
theorem mx_OL.len : ∀ {l l' : mx_L}, mx_OL g x l l' → l'.length = l.length
  | [], _, h => by cases h; rfl
  | _ :: _, _, ⟨v', vs', h1, _, h3⟩ => by subst h1; simp [mx_OL.len h3]
theorem mx_OL.at : ∀ {l l' : mx_L} (k : Nat) {v : Value}, mx_OL g x l l' → mx_ld l k = some v → ∃ v', l'[k]? = some (some v') ∧ mx_V g x v v'
  | [], _, n, _, _, h => by simp [mx_ld] at h
  | a :: _, _, 0, v, ⟨a', as', h1, h2, _⟩, h => by
    subst h1
    have e : a = some v := by simpa [mx_ld] using h
    subst e
    obtain ⟨w, h3, h4⟩ := h2
    subst h3
    exact ⟨w, rfl, h4⟩
  | _ :: _, _, n + 1, _, ⟨v', vs', h1, _, h3⟩, h => by subst h1; exact mx_OL.at n h3 (by simpa [mx_ld] using h)
/-- the locals as the kit lists them -/
def mx_lv : Nat → mx_L → List (Nat × Value)
  | _, [] => []
  | i, none :: l => mx_lv (i + 1) l
  | i, some v :: l => (i, v) :: mx_lv (i + 1) l
theorem mx_lv_mem : ∀ (l : mx_L) (i j : Nat) (v : Value), (j, v) ∈ mx_lv i l ↔ ∃ k, j = i + k ∧ l[k]? = some (some v)
  | [], i, j, v => by simp [mx_lv]
  | a :: l, i, j, v => by
    have ih := mx_lv_mem l (i + 1) j v
    constructor
    · intro h
      cases a with
      | none =>
        obtain ⟨k, h1, h2⟩ := ih.mp h
        exact ⟨k + 1, by omega, by simpa using h2⟩
      | some w =>
        rcases List.mem_cons.mp h with h | h
        · cases h; exact ⟨0, rfl, rfl⟩
        · obtain ⟨k, h1, h2⟩ := ih.mp h
          exact ⟨k + 1, by omega, by simpa using h2⟩
    · rintro ⟨k, h1, h2⟩
      cases k with
      | zero =>
        have e : a = some v := by simpa using h2
        subst e
        subst h1
        exact List.mem_cons_self
      | succ k =>
        have h3 := ih.mpr ⟨k, by omega, by simpa using h2⟩
        cases a with
        | none => exact h3
        | some w => exact List.mem_cons_of_mem _ h3
/-- the locals held by the frame -/
def mx_LS (ls : Array Slot) (lc : mx_L) : Prop := lv_has ls lc.length (mx_lv 0 lc)
theorem mx_LS.at {ls : Array Slot} {lc : mx_L} (h : mx_LS ls lc) {k : Nat} {v : Value} (hk : lc[k]? = some (some v)) : ls[k]? = some (.val v) := h.2.2 (k, v) ((mx_lv_mem lc 0 k v).mpr ⟨k, by omega, hk⟩)
theorem mx_st1_len : ∀ (l : mx_L) (k : Nat) (v : Value), (mx_st1 l k v).length = l.length
  | [], _, _ => rfl
  | _ :: l, 0, v => rfl
  | _ :: l, k + 1, v => by simp [mx_st1, mx_st1_len l k v]
theorem mx_st2_len : ∀ (l : mx_L) (k : Nat) (v : Value), (mx_st2 l k v).length = l.length
  | [], _, _ => rfl
  | _ :: l, 0, v => by simp [mx_st2]
  | _ :: l, k + 1, v => by simp [mx_st2, mx_st2_len l k v]
theorem mx_dw_some {a : Option Value} {k : Nat} {w : Value} (h : mx_dw a k = some w) : a = some w ∧ (k = 0 → mx_wd w = false) := by
  cases k with
  | succ k => rw [mx_dw_s] at h; exact ⟨h, fun z => by cases z⟩
  | zero =>
    cases a with
    | none => cases h
    | some v =>
      have h : (if mx_wd v then none else some v) = some w := h
      by_cases hw : mx_wd v = true
      · rw [if_pos hw] at h; cases h
      · rw [if_neg hw] at h
        cases h
        exact ⟨rfl, fun _ => by simpa using hw⟩
theorem mx_st1_get : ∀ (l : mx_L) (k : Nat) (v : Value) (j : Nat) (w : Value), (mx_st1 l k v)[j]? = some (some w) → (j = k ∧ w = v) ∨ (j ≠ k ∧ l[j]? = some (some w) ∧ (j + 1 = k → mx_wd w = false))
  | [], k, v, j, w, h => by simp [mx_st1] at h
  | a :: l, 0, v, 0, w, h => by
    left
    have e : some v = some w := by simpa [mx_st1] using h
    exact ⟨rfl, (Option.some.inj e).symm⟩
  | a :: l, 0, v, j + 1, w, h => by
    right
    exact ⟨by omega, by simpa [mx_st1] using h, by omega⟩
  | a :: l, k + 1, v, 0, w, h => by
    right
    have e : mx_dw a k = some w := by simpa [mx_st1] using h
    obtain ⟨h1, h2⟩ := mx_dw_some e
    exact ⟨by omega, by simp [h1], fun z => h2 (by omega)⟩
  | a :: l, k + 1, v, j + 1, w, h => by
    have h' : (mx_st1 l k v)[j]? = some (some w) := by simpa [mx_st1] using h
    rcases mx_st1_get l k v j w h' with ⟨h1, h2⟩ | ⟨h1, h2, h3⟩
    · left; exact ⟨by omega, h2⟩
    · right; exact ⟨by omega, by simpa using h2, fun z => h3 (by omega)⟩
theorem mx_st2_get : ∀ (l : mx_L) (k : Nat) (v : Value) (j : Nat) (w : Value), (mx_st2 l k v)[j]? = some (some w) → (j = k ∧ w = v) ∨ (j ≠ k ∧ j ≠ k + 1 ∧ l[j]? = some (some w) ∧ (j + 1 = k → mx_wd w = false))
  | [], k, v, j, w, h => by simp [mx_st2] at h
  | a :: l, 0, v, 0, w, h => by
    left
    have e : some v = some w := by simpa [mx_st2] using h
    exact ⟨rfl, (Option.some.inj e).symm⟩
  | a :: l, 0, v, j + 1, w, h => by
    right
    have h' : (l.set 0 none)[j]? = some (some w) := by simpa [mx_st2] using h
    cases j with
    | zero => cases l <;> simp at h'
    | succ j =>
      refine ⟨by omega, by omega, ?_, by omega⟩
      rw [List.getElem?_set_ne (by omega)] at h'
      simpa using h'
  | a :: l, k + 1, v, 0, w, h => by
    right
    have e : mx_dw a k = some w := by simpa [mx_st2] using h
    obtain ⟨h1, h2⟩ := mx_dw_some e
    exact ⟨by omega, by omega, by simp [h1], fun z => h2 (by omega)⟩
  | a :: l, k + 1, v, j + 1, w, h => by
    have h' : (mx_st2 l k v)[j]? = some (some w) := by simpa [mx_st2] using h
    rcases mx_st2_get l k v j w h' with ⟨h1, h2⟩ | ⟨h1, h2, h3, h4⟩
    · left; exact ⟨by omega, h2⟩
    · right; exact ⟨by omega, by omega, by simpa using h3, fun z => h4 (by omega)⟩
theorem mx_dw_rel {a a' : Option Value} (h : mx_O1 g x a a') (k : Nat) : mx_O1 g x (mx_dw a k) (mx_dw a' k) := by
  cases k with
  | succ k => rw [mx_dw_s, mx_dw_s]; exact h
  | zero =>
    cases a with
    | none => rw [show a' = none from h]; rfl
    | some v =>
      obtain ⟨v', h1, h2⟩ := h
      subst h1
      show mx_O1 g x (if mx_wd v then none else some v) (if mx_wd v' then none else some v')
      rw [h2.wd]
      by_cases c : mx_wd v = true
      · rw [if_pos c, if_pos c]; rfl
      · rw [if_neg c, if_neg c]; exact ⟨v', rfl, h2⟩
theorem mx_OL.st1 : ∀ {l l' : mx_L} (k : Nat) {v v' : Value}, mx_OL g x l l' → mx_V g x v v' → mx_OL g x (mx_st1 l k v) (mx_st1 l' k v')
  | [], _, _, _, _, h, _ => by cases h; rfl
  | _ :: _, _, 0, _, _, ⟨a', as', h1, _, h3⟩, hv => by subst h1; exact ⟨_, _, rfl, ⟨_, rfl, hv⟩, h3⟩
  | _ :: _, _, k + 1, _, _, ⟨a', as', h1, h2, h3⟩, hv => by subst h1; exact ⟨_, _, rfl, mx_dw_rel h2 k, mx_OL.st1 k h3 hv⟩
theorem mx_OL.set0 : ∀ {l l' : mx_L}, mx_OL g x l l' → mx_OL g x (l.set 0 none) (l'.set 0 none)
  | [], _, h => by cases h; rfl
  | _ :: _, _, ⟨a', as', h1, _, h3⟩ => by subst h1; exact ⟨_, _, rfl, rfl, h3⟩
theorem mx_OL.st2 : ∀ {l l' : mx_L} (k : Nat) {v v' : Value}, mx_OL g x l l' → mx_V g x v v' → mx_OL g x (mx_st2 l k v) (mx_st2 l' k v')
  | [], _, _, _, _, h, _ => by cases h; rfl
  | _ :: _, _, 0, _, _, ⟨a', as', h1, _, h3⟩, hv => by subst h1; exact ⟨_, _, rfl, ⟨_, rfl, hv⟩, h3.set0⟩
  | _ :: _, _, k + 1, _, _, ⟨a', as', h1, h2, h3⟩, hv => by subst h1; exact ⟨_, _, rfl, mx_dw_rel h2 k, mx_OL.st2 k h3 hv⟩
theorem mx_LS.st1 {ls' : Array Slot} {lc : mx_L} {k : Nat} {v : Value} (h : lv_has ls' lc.length ((k, v) :: (mx_lv 0 lc).filter (fun q => !(q.1 == k) && !(q.1 + 1 == k && q.2.category == 2)))) : mx_LS ls' (mx_st1 lc k v) := by
  obtain ⟨h1, h2, h3⟩ := h
  refine ⟨by rw [mx_st1_len]; exact h1, h2, fun q hq => ?_⟩
  obtain ⟨j, w⟩ := q
  obtain ⟨j', e, hj⟩ := (mx_lv_mem _ 0 j w).mp hq
  have ej : j' = j := by omega
  subst ej
  rcases mx_st1_get lc k v j' w hj with ⟨e1, e2⟩ | ⟨e1, e2, e3⟩
  · subst e1; subst e2; exact h3 _ List.mem_cons_self
  · refine h3 (j', w) (List.mem_cons_of_mem _ (List.mem_filter.mpr ⟨(mx_lv_mem lc 0 j' w).mpr ⟨j', by omega, e2⟩, ?_⟩))
    have c1 : (j' == k) = false := by simpa using e1
    simp only [c1, Bool.not_false, Bool.true_and]
    by_cases c : j' + 1 = k
    · have := e3 c
      rw [mx_wd_cat, this]
      simp
    · have : (j' + 1 == k) = false := by simpa using c
      rw [this]
      rfl
theorem mx_LS.st2 {ls' : Array Slot} {lc : mx_L} {k : Nat} {v : Value} (h : lv_has ls' lc.length ((k, v) :: (mx_lv 0 lc).filter (fun q => !(q.1 == k) && (!(q.1 == k + 1) && !(q.1 + 1 == k && q.2.category == 2))))) : mx_LS ls' (mx_st2 lc k v) := by
  obtain ⟨h1, h2, h3⟩ := h
  refine ⟨by rw [mx_st2_len]; exact h1, h2, fun q hq => ?_⟩
  obtain ⟨j, w⟩ := q
  obtain ⟨j', e, hj⟩ := (mx_lv_mem _ 0 j w).mp hq
  have ej : j' = j := by omega
  subst ej
  rcases mx_st2_get lc k v j' w hj with ⟨e1, e2⟩ | ⟨e1, e0, e2, e3⟩
  · subst e1; subst e2; exact h3 _ List.mem_cons_self
  · refine h3 (j', w) (List.mem_cons_of_mem _ (List.mem_filter.mpr ⟨(mx_lv_mem lc 0 j' w).mpr ⟨j', by omega, e2⟩, ?_⟩))
    have c1 : (j' == k) = false := by simpa using e1
    have c2 : (j' == k + 1) = false := by simpa using e0
    simp only [c1, c2, Bool.not_false, Bool.true_and]
    by_cases c : j' + 1 = k
    · have := e3 c
      rw [mx_wd_cat, this]
      simp
    · have : (j' + 1 == k) = false := by simpa using c
      rw [this]
      rfl
/-! the locals at a method's entry -/
theorem mx_lv_args : ∀ (vs : List Value) (i : Nat), mx_lv i (mx_lo0 vs) = lv_args i vs
  | [], _ => rfl
  | v :: vs, i => by
    unfold mx_lo0 lv_args
    rw [mx_wd_cat]
    by_cases c : mx_wd v = true
    · rw [if_pos c]
      simp only [c, if_true, mx_lv]
      rw [mx_lv_args vs]
    · rw [if_neg c]
      simp only [c, Bool.false_eq_true, if_false, mx_lv]
      rw [mx_lv_args vs]
      rfl
theorem mx_lv_pad : ∀ (l : mx_L) (n i : Nat), mx_lv i (l ++ List.replicate n none) = mx_lv i l
  | [], 0, _ => rfl
  | [], n + 1, i => mx_lv_pad [] n (i + 1)
  | none :: l, n, i => mx_lv_pad l n (i + 1)
  | some v :: l, n, i => by
    exact congrArg (fun z => (i, v) :: z) (mx_lv_pad l n (i + 1))
theorem mx_lo0_len : ∀ (vs : List Value), (mx_lo0 vs).length = mx_csz vs
  | [] => rfl
  | v :: vs => by
    unfold mx_lo0
    show _ = v.category + mx_csz vs
    rw [mx_wd_cat]
    by_cases c : mx_wd v = true
    · simp only [c, if_true, List.length_cons, mx_lo0_len vs]; omega
    · simp only [c, Bool.false_eq_true, if_false, List.length_cons, mx_lo0_len vs]; omega
theorem mx_sl_len : ∀ (vs : List Value), (lg_sl vs).length = mx_csz vs
  | [] => rfl
  | v :: vs => by
    show (lg_sl (v :: vs)).length = v.category + mx_csz vs
    have ih := mx_sl_len vs
    unfold lg_sl at ih ⊢
    rw [List.flatMap_cons, List.length_append, ih]
    rcases lv_cat v with c | c <;> simp [c]
theorem mx_pad_len {vs : List Value} {n : Nat} (h : mx_csz vs ≤ n) : (mx_pad n (mx_lo0 vs)).length = n := by
  unfold mx_pad
  rw [List.length_append, List.length_replicate, mx_lo0_len]
  omega
theorem mx_LS.entry {vs : List Value} {n : Nat} (h : mx_csz vs ≤ n) : mx_LS ((lg_sl vs ++ List.replicate (n - (lg_sl vs).length) Slot.unset).toArray) (mx_pad n (mx_lo0 vs)) := by
  have h1 := lv_entry vs (n := n) (by rw [mx_sl_len]; exact h)
  unfold mx_LS
  rw [mx_pad_len h]
  unfold mx_pad
  rw [mx_lv_pad, mx_lv_args]
  exact h1
theorem mx_OL.app : ∀ {l l' k k' : mx_L}, mx_OL g x l l' → mx_OL g x k k' → mx_OL g x (l ++ k) (l' ++ k')
  | [], _, _, _, h, h2 => by cases h; exact h2
  | _ :: _, _, _, _, ⟨v', vs', h1, h2, h3⟩, h4 => by subst h1; exact ⟨v', _, rfl, h2, mx_OL.app h3 h4⟩
theorem mx_OL.nones : ∀ (n : Nat), mx_OL g x (List.replicate n none) (List.replicate n none)
  | 0 => rfl
  | n + 1 => ⟨none, _, rfl, rfl, mx_OL.nones n⟩
theorem mx_OL.lo0 : ∀ {vs vs' : List Value}, mx_VL g x vs vs' → mx_OL g x (mx_lo0 vs) (mx_lo0 vs')
  | [], _, h => by cases h; rfl
  | v :: vs, _, ⟨v', vs', h1, h2, h3⟩ => by
    subst h1
    have ih := mx_OL.lo0 h3
    unfold mx_lo0
    rw [h2.wd]
    by_cases c : mx_wd v = true
    · rw [if_pos c, if_pos c]; exact ⟨_, _, rfl, ⟨v', rfl, h2⟩, none, _, rfl, rfl, ih⟩
    · rw [if_neg c, if_neg c]; exact ⟨_, _, rfl, ⟨v', rfl, h2⟩, ih⟩
theorem mx_OL.entry {vs vs' : List Value} {n : Nat} (h : mx_VL g x vs vs') : mx_OL g x (mx_pad n (mx_lo0 vs)) (mx_pad n (mx_lo0 vs')) := by
  have h1 := mx_OL.lo0 h
  unfold mx_pad
  rw [h1.len]
  exact h1.app (mx_OL.nones _)
end MXV
/-! entries and heaps -/
section MXE
variable {g g' : Nat → Option Nat} {x : Nat → Nat → Prop} {cas : Nat → ClassId} {D : va_G} {A0 : Nat → Prop}
def mx_Ee (g : Nat → Option Nat) (x : Nat → Nat → Prop) (cas : Nat → ClassId) (e : mx_E) (e' : va_E) : Prop := match e with
  | .inl (t, n, .inl f) => (t < 5 ∧ t ≠ 3) ∧ e' = .inl (cas t, n, .inl f)
  | .inl (t, n, .inr (.inl f)) => t = 3 ∧ e' = .inl (cas t, n, .inr (.inl f))
  | .inl (t, n, .inr (.inr f)) => (5 ≤ t ∧ t < 11) ∧ ∃ f' : Nat → Option Nat, e' = .inl (cas t, n, .inr (.inr (.inr (.inr f')))) ∧ ∀ j, mx_V g x (mx_rv t (f j)) (va_rf (f' j))
  | .inr (c, F) => ∃ fs : List Value, e' = .inr (c, fs) ∧ fs.length = mx_nf c ∧ ∀ k v, fs[k]? = some v → mx_V g x (F k) v
theorem mx_Ee.mono (hg : ∀ p a, g p = some a → g' p = some a) {e : mx_E} {e' : va_E} (h : mx_Ee g x cas e e') : mx_Ee g' x cas e e' := by
  rcases e with ⟨t, n, f | f | f⟩ | ⟨c, F⟩
  · exact h
  · exact h
  · obtain ⟨h1, f', h2, h3⟩ := h
    exact ⟨h1, f', h2, fun j => (h3 j).mono hg⟩
  · obtain ⟨fs, h1, h2, h3⟩ := h
    exact ⟨fs, h1, h2, fun k v hk => (h3 k v hk).mono hg⟩
/-- the heap: L the places' addresses, E their entries in the kit's form -/
def mx_Hr (D : va_G) (cas : Nat → ClassId) (x : Nat → Nat → Prop) (A0 : Nat → Prop) (L : List Nat) (E : List va_E) (h : List mx_E) (H : Heap) : Prop :=
  L.length = h.length ∧ E.length = h.length ∧ (∀ (p : Nat) (e : mx_E), h[p]? = some e → ∃ e', E[p]? = some e' ∧ mx_Ee (fun q => L[q]?) x cas e e') ∧ va_P D mx_cl (L.zip E) H ∧ va_D A0 (L.zip E)
theorem mx_zip_at {L : List Nat} {E : List va_E} {p a : Nat} {e : va_E} (h1 : L[p]? = some a) (h2 : E[p]? = some e) : (L.zip E)[p]? = some (a, e) := by
  rw [List.getElem?_zip_eq_some]
  exact ⟨h1, h2⟩
theorem mx_zip_set : ∀ {L : List Nat} {E : List va_E} {p a : Nat} {e : va_E}, L[p]? = some a → (L.zip E).set p (a, e) = L.zip (E.set p e)
  | [], _, _, _, _, h => by simp at h
  | _ :: _, [], p, _, _, _ => by simp
  | b :: L, e0 :: E, 0, a, e, h => by
    have : b = a := by simpa using h
    subst this
    rfl
  | b :: L, e0 :: E, p + 1, a, e, h => by
    show (b, e0) :: (L.zip E).set p (a, e) = _
    rw [mx_zip_set (by simpa using h)]
    rfl
theorem mx_zip_push : ∀ {L : List Nat} {E : List va_E} {a : Nat} {e : va_E}, L.length = E.length → L.zip E ++ [(a, e)] = (L ++ [a]).zip (E ++ [e])
  | [], [], _, _, _ => rfl
  | [], _ :: _, _, _, h => by cases h
  | _ :: _, [], _, _, h => by cases h
  | b :: L, e0 :: E, a, e, h => by
    show (b, e0) :: (L.zip E ++ [(a, e)]) = _
    rw [mx_zip_push (by simpa using h)]
    rfl
theorem mx_Hr.entry {L : List Nat} {E : List va_E} {h : List mx_E} {H : Heap} (hh : mx_Hr D cas x A0 L E h H) {p a : Nat} {e : mx_E} (he : h[p]? = some e) (ha : L[p]? = some a) : ∃ e', E[p]? = some e' ∧ (L.zip E)[p]? = some (a, e') ∧ mx_Ee (fun q => L[q]?) x cas e e' := by
  obtain ⟨e', h1, h2⟩ := hh.2.2.1 p e he
  exact ⟨e', h1, mx_zip_at ha h1, h2⟩
theorem mx_Hr.set {L : List Nat} {E : List va_E} {h : List mx_E} {H H1 : Heap} (hh : mx_Hr D cas x A0 L E h H) {p a : Nat} {e1 : mx_E} {e' : va_E} (ha : L[p]? = some a) (hP : va_P D mx_cl ((L.zip E).set p (a, e')) H1) (hD : va_D A0 ((L.zip E).set p (a, e'))) (he : mx_Ee (fun q => L[q]?) x cas e1 e') : mx_Hr D cas x A0 L (E.set p e') (h.set p e1) H1 := by
  rw [mx_zip_set ha] at hP hD
  refine ⟨by simp [hh.1], by simp [hh.2.1], fun q e hq => ?_, hP, hD⟩
  by_cases c : q = p
  · subst c
    have hl : q < h.length := by
      have := (List.getElem?_eq_some_iff.mp ha).1
      rw [hh.1] at this
      exact this
    rw [List.getElem?_set_self hl] at hq
    cases hq
    exact ⟨e', by rw [List.getElem?_set_self (by rw [hh.2.1]; exact hl)], he⟩
  · rw [List.getElem?_set_ne (Ne.symm c)] at hq
    obtain ⟨e2, h1, h2⟩ := hh.2.2.1 q e hq
    exact ⟨e2, by rw [List.getElem?_set_ne (Ne.symm c)]; exact h1, h2⟩
theorem mx_ext {L M : List Nat} : ∀ (p a : Nat), L[p]? = some a → (L ++ M)[p]? = some a := fun p a h => by
  rw [List.getElem?_append_left (List.getElem?_eq_some_iff.mp h).1]
  exact h
theorem mx_Hr.push {L : List Nat} {E : List va_E} {h : List mx_E} {H H1 : Heap} (hh : mx_Hr D cas x A0 L E h H) {a : Nat} {e1 : mx_E} {e' : va_E} (hP : va_P D mx_cl (L.zip E ++ [(a, e')]) H1) (hD : va_D A0 (L.zip E ++ [(a, e')])) (he : mx_Ee (fun q => L[q]?) x cas e1 e') : mx_Hr D cas x A0 (L ++ [a]) (E ++ [e']) (h ++ [e1]) H1 := by
  rw [mx_zip_push (by rw [hh.1, hh.2.1])] at hP hD
  refine ⟨by simp [hh.1], by simp [hh.2.1], fun q e hq => ?_, hP, hD⟩
  by_cases c : q < h.length
  · rw [List.getElem?_append_left c] at hq
    obtain ⟨e2, h1, h2⟩ := hh.2.2.1 q e hq
    exact ⟨e2, by rw [List.getElem?_append_left (by rw [hh.2.1]; exact c)]; exact h1, h2.mono mx_ext⟩
  · rw [List.getElem?_append_right (by omega)] at hq
    have hz : q - h.length < 1 := (List.getElem?_eq_some_iff.mp hq).1
    have hq0 : q = h.length := by omega
    subst hq0
    rw [Nat.sub_self] at hq
    cases hq
    refine ⟨e', ?_, he.mono mx_ext⟩
    rw [← hh.2.1, List.getElem?_append_right (Nat.le_refl _), Nat.sub_self]
    rfl
theorem mx_inb_iff {i : Int32} {n : Nat} : mx_inb i n = true ↔ vp_in i n := by
  unfold mx_inb vp_in
  exact decide_eq_true_iff
end MXE
/-! what the tables owe, entry by entry -/
def mx_side (w : Cond) : Bool := match w with
  | .fieldLinkNest .. => true
  | .methodLinkNest .. => true
  | .declares _ => true
  | .castable .. => true
  | .arrayOver (.object _) => true
  | _ => false
/-- those of them that speak of the tables alone -/
def mx_sd2 (w : Cond) : Bool := match w with
  | .arrayOver _ => false
  | w => mx_side w
theorem mx_sd2_side {w : Cond} (h : mx_sd2 w = true) : mx_side w = true ∧ w.onTables = true := by
  cases w <;> first | exact ⟨rfl, rfl⟩ | cases h
/-- a class of objects: its words, its fields' types, its fields apart -/
def mx_KOK (c : Nat) (r : vw_C) : Prop := mx_cl[c]? = some r ∧ (∀ w ∈ u_ws r.1 r.2.1 r.2.2, w ∈ lw_all) ∧ (∀ k, k < r.2.2 → parseFieldDescriptor (r.2.1 k).2.2.1 = some (mx_fty c k)) ∧ (∀ a, a < r.2.2 → ∀ b, b < r.2.2 → a ≠ b → (r.2.1 a).2.1 ≠ (r.2.1 b).2.1 ∨ ((r.2.1 a).1 ≠ (r.2.1 b).1 ∧ (r.2.1 a).2.2.2 = true ∧ (r.2.1 b).2.2.2 = true)) ∧ (∀ k, k < r.2.2 → mx_fin c k = (r.2.1 k).2.2.2 ∧ mx_dcl c k = (r.2.1 k).1)
def mx_FOK (o i c k : Nat) : Prop := ∃ (r : vw_C) (ref : String), mx_KOK c r ∧ k < r.2.2 ∧ (Cond.fieldLink (mx_cls o) i ref (r.2.1 k).2.1 (r.2.1 k).2.2.1 ∈ lw_all ∨ ∃ host, Cond.fieldLinkNest (mx_cls o) i ref (r.2.1 k).2.1 (r.2.1 k).2.2.1 host ∈ lw_tbl) ∧ (ref = (r.2.1 k).1 ∨ Cond.sameField ref (r.2.1 k).1 (r.2.1 k).2.1 (r.2.1 k).2.2.1 ∈ lw_all)
def mx_NOK (o i c : Nat) : Prop := ∃ r : vw_C, mx_KOK c r ∧ Cond.classLink (mx_cls o) i r.1 ∈ lw_all ∧ Cond.instantiable r.1 r.2.2 ∈ lw_all ∧ Cond.initialized r.1 ∈ lw_all
def mx_QOK (o i t : Nat) : Prop := 5 ≤ t ∧ t < 11 ∧ ∃ C, mx_tyL[t]? = some (.object C) ∧ Cond.classLink (mx_cls o) i C ∈ lw_all ∧ Cond.arrayOver (.object C) ∈ lw_tbl
/-- the types of arrays with their classes -/
def mx_tys (cas : Nat → ClassId) : List (ClassId × FieldType) := (List.range 11).map fun t => (cas t, mx_tyL.getD t .int)
theorem mx_tys_at (cas : Nat → ClassId) {t : Nat} (h : t < 11) : (mx_tys cas)[t]? = some (cas t, mx_tyL.getD t .int) := by
  unfold mx_tys
  rw [List.getElem?_map, List.getElem?_range h]
  rfl
theorem mx_apart {args : Array Value} {s : State} {Ts : List Cond} {C : String} {T : u_T} {N : Nat} {cC : ClassId} {iS : Nat → Nat} (hts : ∀ w ∈ Ts, w.before args s = true) (hin : ∀ w ∈ u_ws C T N, w ∈ Ts) (ty : Nat → FieldType) (hty : ∀ k, k < N → parseFieldDescriptor (T k).2.2.1 = some (ty k))
    (hnm : ∀ a, a < N → ∀ b, b < N → a ≠ b → (T a).2.1 ≠ (T b).2.1 ∨ ((T a).1 ≠ (T b).1 ∧ (T a).2.2.2 = true ∧ (T b).2.2.2 = true)) (hK : u_Kn s C T N cC iS) : ∀ a b, a < N → b < N → a ≠ b → iS a ≠ iS b := by
  intro a b ha hb hne
  obtain ⟨hS, -⟩ := hK
  obtain ⟨ca, ka, ia, fa, hia, ea⟩ := hS a ha
  obtain ⟨cb, kb, ib, fb, hib, eb⟩ := hS b hb
  rw [← ea, ← eb]
  rcases hnm a ha b hb hne with h | ⟨h1, h2, h3⟩
  · refine u_apart (u_lays hts hin ha) (u_lays hts hin hb) hia hib ?_
    rw [(State.fieldFound?_type hia (hty a ha)).1, (State.fieldFound?_type hib (hty b hb)).1]
    exact h
  · have la := hts _ (hin _ (u_in_lay ha))
    have lb := hts _ (hin _ (u_in_lay hb))
    unfold u_lay at la lb
    rw [if_pos h2] at la
    rw [if_pos h3] at lb
    obtain ⟨c1, k1, c1', k1', i1, f1, p1, p2, p3, p4, p5, p6, p7, p8, d1, p9, p10, -⟩ := Cond.laysFinal_spec la
    obtain ⟨c2, k2, c2', k2', i2, f2, q1, q2, q3, q4, q5, q6, q7, q8, d2, q9, q10, -⟩ := Cond.laysFinal_spec lb
    cases hia.symm.trans p3
    cases hib.symm.trans q3
    cases p1.symm.trans q1
    intro e
    rw [e] at p9
    cases p9.symm.trans q9
    have n1 := (State.fieldFound?_spec hia).1
    have n2 := (State.fieldFound?_spec hib).1
    obtain ⟨z1, g1, g2⟩ := Vm.findClass_spec p7
    obtain ⟨z2, g3, g4⟩ := Vm.findClass_spec q7
    cases n1.symm.trans g1
    cases n2.symm.trans g3
    exact h1 (g2.symm.trans (p10.symm.trans (q10.trans g4)))
section MXP
variable {p : Program} {l : Launch} {e : Env} {R : Room} {s : State} {m : MethodId} {args : Array Value} {below : List Frame} {meth : Method} {c : Code} {H : Heap} {locs : List Loc} {cells slots : Nat} {Q : State → Prop}
variable {cc : ByteArray} {pc : Nat} {ls : Array Slot} {rest : List Value} {D : va_G} {A : Nat → Prop} {a : Nat} {tys : List (ClassId × FieldType)} {ws : va_W} {H0 : Heap}
/-- getfield of a table's entry -/
theorem mx_wget (hexec : p.tables.exec = Jvm.exec) (hb : c.code = cc) (hts : ∀ w ∈ lw_all, w.before args s = true) (htb : ∀ w ∈ lw_tbl, mx_sd2 w = true → w.before args s = true) {o i ci k : Nat} (hF : mx_FOK o i ci k) (hown : s.vm.findClass (mx_cls o) = some m.cls) (hK : va_K D mx_cl tys s) (hP : va_P D mx_cl ws H) (q0 : Nat) {fs : List Value} (he : ws[q0]? = some (a, .inr (ci, fs))) {v : Value} (hv : fs[k]? = some v) (hdg : decode cc pc = .ok (.getfield i, 3))
    (kk : W p l e R s m args below meth c H locs cells slots Q (F0 m (pc + 3) ls (v :: rest))) : W p l e R s m args below meth c H locs cells slots Q (F0 m pc ls (.ref a :: rest)) := by
  obtain ⟨⟨C, T, N⟩, ref, ⟨hc, hin, -, -, -⟩, hk, hl, hs⟩ := hF
  dsimp only at hc hin hk hl hs
  have hsame : ∀ z, s.fieldFound? (T k).1 (T k).2.1 (T k).2.2.1 = some z → s.fieldFound? ref (T k).2.1 (T k).2.2.1 = some z := by
    rcases hs with h | h
    · rw [h]; exact fun _ h => h
    · exact fun z hz => u_same (hts _ h) z hz
  rcases hl with h | ⟨host, h⟩
  · exact va_get hexec hb hts hin hown hK hP q0 he hc k hk (hts _ h) hsame hv hdg kk
  · exact va_getN hexec hb hts hin hown hK hP q0 he hc k hk (htb _ h rfl) hsame hv hdg kk
theorem mx_wput (hexec : p.tables.exec = Jvm.exec) (hb : c.code = cc) (hts : ∀ w ∈ lw_all, w.before args s = true) (htb : ∀ w ∈ lw_tbl, mx_sd2 w = true → w.before args s = true) {o i ci k : Nat} (hF : mx_FOK o i ci k) (hown : s.vm.findClass (mx_cls o) = some m.cls) (hK : va_K D mx_cl tys s) (hP : va_P D mx_cl ws H) (hD : va_D A ws) (hS0 : va_S A H0 H locs) (q0 : Nat) {fs : List Value} (he : ws[q0]? = some (a, .inr (ci, fs))) {v : Value}
    (hfin : mx_fin ci k = false ∨ (meth.name = "<init>" ∧ mx_dcl ci k = mx_cls o)) (hn : narrow (mx_fty ci k) v = v) (hfit : fits (mx_fty ci k) v = true) (hl : k < fs.length) (hdg : decode cc pc = .ok (.putfield i, 3))
    (kk : ∀ (H1 : Heap) (locs1 : List Loc), va_P D mx_cl (ws.set q0 (a, .inr (ci, fs.set k v))) H1 → va_D A (ws.set q0 (a, .inr (ci, fs.set k v))) → va_S A H0 H1 locs1 → W p l e R s m args below meth c H1 locs1 cells slots Q (F0 m (pc + 3) ls rest)) : W p l e R s m args below meth c H locs cells slots Q (F0 m pc ls (v :: .ref a :: rest)) := by
  obtain ⟨⟨C, T, N⟩, ref, ⟨hc, hin, hty, hap0, hfd⟩, hk, hlk, hs⟩ := hF
  dsimp only at hc hin hty hap0 hfd hk hlk hs
  have hsame : ∀ z, s.fieldFound? (T k).1 (T k).2.1 (T k).2.2.1 = some z → s.fieldFound? ref (T k).2.1 (T k).2.2.1 = some z := by
    rcases hs with h | h
    · rw [h]; exact fun _ h => h
    · exact fun z hz => u_same (hts _ h) z hz
  have hap := mx_apart hts hin (mx_fty ci) hty hap0 (hK.1 ci _ hc)
  obtain ⟨r, h1, cell, q1, q2, q3, q4⟩ := hP q0 _ he
  have hr : r = (C, T, N) := Option.some.inj (h1.symm.trans hc)
  subst hr
  obtain ⟨hS, hfc, kC, hkC, hkind⟩ := hK.1 ci _ hc
  obtain ⟨cf, kf, fi, f, hi, hsl⟩ := hS k hk
  have hlay := hts _ (hin _ (u_in_lay hk))
  have hst := (u_facts hfc hkC (u_lays hts hin hk) hi).1
  have fin : ∀ H' : Heap, H'[a]? = some (cell.setSlot (D.2 ci k) v) → H'.size = H.size → (∀ q, q ≠ a → H'[q]? = H[q]?) → va_P D mx_cl (ws.set q0 (a, .inr (ci, fs.set k v))) H' ∧ va_D A (ws.set q0 (a, .inr (ci, fs.set k v))) ∧ va_S A H0 H' (locs ++ [⟨a, D.2 ci k⟩]) := fun H' e1 e2 e3 =>
    ⟨hP.set hD he ⟨_, hc, t_OB.to (V := updV (vp_V fs) k v) ⟨_, e1, q2, q3, t_set q4 hap hk v⟩ (fun j _ => vp_updV_set hl v j)⟩ e3, hD.set he, hS0.put e2 e3 (hD.2 q0 _ he)⟩
  by_cases hf : (T k).2.2.2 = true
  · have hfin2 : meth.name = "<init>" ∧ (T k).1 = mx_cls o := by
      rcases hfin with h | h
      · rw [(hfd k hk).1, hf] at h; cases h
      · exact ⟨h.1, (hfd k hk).2.symm.trans h.2⟩
    unfold u_lay at hlay
    rw [if_pos hf] at hlay
    have hcf : m.cls = cf := by
      obtain ⟨_, _, c', _, _, _, -, -, hf', -, -, -, hown2, -⟩ := Cond.laysFinal_spec hlay
      have e1 : c' = cf := by have := hi.symm.trans hf'; simp at this; exact this.1.symm
      rw [hfin2.2] at hown2
      rw [← e1]; exact Option.some.inj (hown.symm.trans hown2)
    have h6 := u_fits hfc hkC hkind (Or.inr hlay) hi (hty k hk) hn hfit
    rcases hlk with h | ⟨host, h⟩
    · refine W.putFinK hexec hb hown (hts _ h) (hsame _ hi) hst hcf hfin2.1 (by rw [q2]; exact h6) q1 q3 (by rw [hsl]; exact k2_hasslot (q4 k hk)) rfl rfl hdg fun H' e1 e2 e3 => ?_
      rw [hsl] at e1 ⊢
      obtain ⟨g1, g2, g3⟩ := fin H' e1 e2 e3
      exact kk H' _ g1 g2 g3
    · refine va_Wputf hexec hb hown (htb _ h rfl) (hsame _ hi) hst (Or.inr ⟨hcf, hfin2.1⟩) q1 (by rw [q3]; exact fun h => by cases h) (by rw [hsl]; exact k2_hasslot (q4 k hk)) h6.1 (by rw [q2, q3]; exact h6.2) rfl rfl hdg ?_
      have ha : a < H.size := (Array.getElem?_eq_some_iff.mp q1).1
      rw [hsl]
      obtain ⟨g1, g2, g3⟩ := fin (H.setIfInBounds a (cell.setSlot (D.2 ci k) v)) (by simp [Array.getElem?_setIfInBounds, ha]) (by simp) (fun q hq => by simp [Array.getElem?_setIfInBounds, Ne.symm hq])
      exact kk _ _ g1 g2 g3
  · unfold u_lay at hlay
    rw [if_neg hf] at hlay
    have h6 := u_store hfc hkC hkind hlay hi (hty k hk) hn hfit
    rcases hlk with h | ⟨host, h⟩
    · refine W.putK hexec hb (f := f) ⟨hown, hts _ h, ⟨_, _, _, hsame _ hi⟩, hst⟩ (by rw [q2]; exact h6) q1 q3 (by rw [hsl]; exact k2_hasslot (q4 k hk)) rfl rfl hdg fun H' e1 e2 e3 => ?_
      rw [hsl] at e1 ⊢
      obtain ⟨g1, g2, g3⟩ := fin H' e1 e2 e3
      exact kk H' _ g1 g2 g3
    · refine va_WputK hexec hb (f := f) hown (htb _ h rfl) (hsame _ hi) hst (by rw [q2]; exact h6) q1 q3 (by rw [hsl]; exact k2_hasslot (q4 k hk)) rfl rfl hdg fun H' e1 e2 e3 => ?_
      rw [hsl] at e1 ⊢
      obtain ⟨g1, g2, g3⟩ := fin H' e1 e2 e3
      exact kk H' _ g1 g2 g3
end MXP
