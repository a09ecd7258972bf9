/-! THE PLAIN LAW OF THE TEXT: tokens, the parser, codes (no program in sight) -/
section TXA
def isL (c : Nat) : Bool := decide (97 ≤ c ∧ c ≤ 122)
def isD (c : Nat) : Bool := decide (48 ≤ c ∧ c ≤ 57)
variable (C : Nat → Nat) (n : Nat)
def skp : Nat → Nat → Nat
  | 0, p => p
  | k + 1, p => if p < n ∧ C p = 32 then skp k (p + 1) else p
def wen : Nat → Nat → Nat
  | 0, p => p
  | k + 1, p => if p < n ∧ isL (C p) = true then wen k (p + 1) else p
def den : Nat → Nat → Nat
  | 0, p => p
  | k + 1, p => if p < n ∧ isD (C p) = true then den k (p + 1) else p
/-- where the token behind t begins, where it ends -/
def nxf (t : Nat) : Nat := skp C n (n - t) t
def ends (f : Nat) : Nat := if f < n then (if isL (C f) = true then wen C n (n - f) f else if isD (C f) = true then den C n (n - f) f else f + 1) else f
def nxt (t : Nat) : Nat := ends C n (nxf C n t)
def mat : Nat → List Nat → Bool
  | _, [] => true
  | f, c :: s => decide (C f = c) && mat (f + 1) s
def wd (f t : Nat) (s : List Nat) : Bool := decide (t = f + s.length) && mat C f s
def numv : Nat → Nat → Nat → Nat
  | 0, _, v => v
  | k + 1, p, v => numv k (p + 1) (10 * v + (C p - 48))
def fctL : List (List Nat) := [[119, 101, 101, 107], [108, 111, 115, 115], [102, 97, 116], [119, 97, 116, 101, 114], [101, 121, 101, 115], [111, 117, 116]]
def actL : List (List Nat) := [[115, 104, 101, 100], [98, 111, 120], [102, 114, 105, 100, 103, 101], [103, 114, 111, 117, 110, 100]]
/-- the first of a list of words that stands here; its length if none does -/
def fst1 (f t : Nat) : List (List Nat) → Nat
  | [] => 0
  | s :: l => if wd C f t s = true then 0 else fst1 f t l + 1
def fct (f t : Nat) : Nat := fst1 C f t fctL
def vl (f t : Nat) : Option Nat := if f < n ∧ isD (C f) = true then (if t ≤ f + 4 then some (numv C (t - f) f 0) else none) else if fct C f t < 6 then some (20000 + fct C f t) else none
end TXA
abbrev tG : Type := (Nat → Int32) → Bool
abbrev tR : Type := Nat ⊕ (tG × Nat × Nat)
def vv (x : Nat) (fs : Nat → Int32) : Int32 := if 20000 ≤ x then fs (x - 20000) else nI x
def tst (x s y : Nat) : tG := fun fs => if s = 60 then decide (vv x fs < vv y fs) else if s = 62 then decide (vv y fs < vv x fs) else decide (vv x fs = vv y fs)
def ngt (b : Bool) (g : tG) : tG := fun fs => if b then !(g fs) else g fs
def tbd (r : Option tR) (k : tG → Nat → Nat → Option tR) : Option tR := match r with
  | none => none
  | some (.inl p) => some (.inl p)
  | some (.inr (g, f, t)) => k g f t
def isS (c : Nat) : Bool := c == 60 || c == 61 || c == 62
/-- the parser: modes 0 one, 1 all, 2 behind an 'all', 3 any, 4 behind an 'any' -/
def prs (C : Nat → Nat) (n : Nat) : Nat → Nat → Bool → Nat → tG → Nat → Nat → Option tR
  | 0, _, _, _, _, _, _ => none
  | k + 1, 0, ng, o, g, f, t =>
    if wd C f t [110, 111, 116] = true then prs C n k 0 (!ng) o g (nxf C n t) (nxt C n t)
    else if wd C f t [40] = true then
      (if o < 3 then tbd (prs C n k 3 false (o + 1) g (nxf C n t) (nxt C n t)) fun g1 f1 t1 => if wd C f1 t1 [41] = true then some (.inr (ngt ng g1, nxf C n t1, nxt C n t1)) else some (.inl f1)
      else some (.inl f))
    else match vl C n f t with
      | none => some (.inl f)
      | some x => if nxf C n t < n ∧ isS (C (nxf C n t)) = true then
          (match vl C n (nxf C n (nxt C n t)) (nxt C n (nxt C n t)) with
          | none => some (.inl (nxf C n (nxt C n t)))
          | some y => some (.inr (ngt ng (tst x (C (nxf C n t)) y), nxf C n (nxt C n (nxt C n t)), nxt C n (nxt C n (nxt C n t)))))
        else some (.inl (nxf C n t))
  | k + 1, 1, _, o, g, f, t => tbd (prs C n k 0 false o g f t) fun g1 f1 t1 => prs C n k 2 false o g1 f1 t1
  | k + 1, 2, _, o, g, f, t => if wd C f t [97, 110, 100] = true then tbd (prs C n k 0 false o g (nxf C n t) (nxt C n t)) fun g1 f1 t1 => prs C n k 2 false o (fun fs => g fs && g1 fs) f1 t1 else some (.inr (g, f, t))
  | k + 1, 3, _, o, g, f, t => tbd (prs C n k 1 false o g f t) fun g1 f1 t1 => prs C n k 4 false o g1 f1 t1
  | k + 1, _, _, o, g, f, t => if wd C f t [111, 114] = true then tbd (prs C n k 1 false o g (nxf C n t) (nxt C n t)) fun g1 f1 t1 => prs C n k 4 false o (fun fs => g fs || g1 fs) f1 t1 else some (.inr (g, f, t))
section TXE
variable {C : Nat → Nat} {n k m o f t : Nat} {ng : Bool} {g : tG}
theorem prs_z : prs C n 0 m ng o g f t = none := by rcases m with _ | _ | _ | _ | m <;> rfl
theorem prs_0 : prs C n (k + 1) 0 ng o g f t = if wd C f t [110, 111, 116] = true then prs C n k 0 (!ng) o g (nxf C n t) (nxt C n t)
    else if wd C f t [40] = true then
      (if o < 3 then tbd (prs C n k 3 false (o + 1) g (nxf C n t) (nxt C n t)) fun g1 f1 t1 => if wd C f1 t1 [41] = true then some (.inr (ngt ng g1, nxf C n t1, nxt C n t1)) else some (.inl f1)
      else some (.inl f))
    else match vl C n f t with
      | none => some (.inl f)
      | some x => if nxf C n t < n ∧ isS (C (nxf C n t)) = true then
          (match vl C n (nxf C n (nxt C n t)) (nxt C n (nxt C n t)) with
          | none => some (.inl (nxf C n (nxt C n t)))
          | some y => some (.inr (ngt ng (tst x (C (nxf C n t)) y), nxf C n (nxt C n (nxt C n t)), nxt C n (nxt C n (nxt C n t)))))
        else some (.inl (nxf C n t)) := rfl
theorem prs_1 : prs C n (k + 1) 1 ng o g f t = tbd (prs C n k 0 false o g f t) fun g1 f1 t1 => prs C n k 2 false o g1 f1 t1 := rfl
theorem prs_2 : prs C n (k + 1) 2 ng o g f t = if wd C f t [97, 110, 100] = true then tbd (prs C n k 0 false o g (nxf C n t) (nxt C n t)) fun g1 f1 t1 => prs C n k 2 false o (fun fs => g fs && g1 fs) f1 t1 else some (.inr (g, f, t)) := rfl
theorem prs_3 : prs C n (k + 1) 3 ng o g f t = tbd (prs C n k 1 false o g f t) fun g1 f1 t1 => prs C n k 4 false o g1 f1 t1 := rfl
theorem prs_4 : prs C n (k + 1) (m + 4) ng o g f t = if wd C f t [111, 114] = true then tbd (prs C n k 1 false o g (nxf C n t) (nxt C n t)) fun g1 f1 t1 => prs C n k 4 false o (fun fs => g fs || g1 fs) f1 t1 else some (.inr (g, f, t)) := rfl
end TXE
/-! facts of tokens -/
section TXB
variable {C : Nat → Nat} {n : Nat}
theorem skp_le : ∀ (k p : Nat), p ≤ skp C n k p
  | 0, p => Nat.le_refl p
  | k + 1, p => by
    unfold skp
    split
    · exact Nat.le_trans (Nat.le_succ p) (skp_le k (p + 1))
    · exact Nat.le_refl p
theorem skp_n : ∀ (k p : Nat), p ≤ n → skp C n k p ≤ n
  | 0, p, h => h
  | k + 1, p, h => by
    unfold skp
    split
    · rename_i c
      exact skp_n k (p + 1) c.1
    · exact h
theorem skp_step {p : Nat} (h : p < n) (h2 : C p = 32) : skp C n (n - p) p = skp C n (n - (p + 1)) (p + 1) := by
  have e : n - p = (n - (p + 1)) + 1 := by omega
  rw [e, skp, if_pos ⟨h, h2⟩]
theorem skp_stop {p : Nat} (h : ¬ (p < n ∧ C p = 32)) (k : Nat) : skp C n k p = p := by
  cases k with
  | zero => rfl
  | succ k => rw [skp, if_neg h]
theorem wen_le : ∀ (k p : Nat), p ≤ wen C n k p
  | 0, p => Nat.le_refl p
  | k + 1, p => by
    unfold wen
    split
    · exact Nat.le_trans (Nat.le_succ p) (wen_le k (p + 1))
    · exact Nat.le_refl p
theorem wen_n : ∀ (k p : Nat), p ≤ n → wen C n k p ≤ n
  | 0, p, h => h
  | k + 1, p, h => by
    unfold wen
    split
    · rename_i c
      exact wen_n k (p + 1) c.1
    · exact h
theorem wen_step {p : Nat} (h : p < n) (h2 : isL (C p) = true) : wen C n (n - p) p = wen C n (n - (p + 1)) (p + 1) := by
  have e : n - p = (n - (p + 1)) + 1 := by omega
  rw [e, wen, if_pos ⟨h, h2⟩]
theorem wen_stop {p : Nat} (h : ¬ (p < n ∧ isL (C p) = true)) (k : Nat) : wen C n k p = p := by
  cases k with
  | zero => rfl
  | succ k => rw [wen, if_neg h]
theorem wen_all : ∀ (k p q : Nat), p ≤ q → q < wen C n k p → isL (C q) = true
  | 0, p, q, h, h2 => by unfold wen at h2; omega
  | k + 1, p, q, h, h2 => by
    unfold wen at h2
    split at h2
    · rename_i c
      by_cases e : p = q
      · subst e; exact c.2
      · exact wen_all k (p + 1) q (by omega) h2
    · omega
theorem den_le : ∀ (k p : Nat), p ≤ den C n k p
  | 0, p => Nat.le_refl p
  | k + 1, p => by
    unfold den
    split
    · exact Nat.le_trans (Nat.le_succ p) (den_le k (p + 1))
    · exact Nat.le_refl p
theorem den_n : ∀ (k p : Nat), p ≤ n → den C n k p ≤ n
  | 0, p, h => h
  | k + 1, p, h => by
    unfold den
    split
    · rename_i c
      exact den_n k (p + 1) c.1
    · exact h
theorem den_step {p : Nat} (h : p < n) (h2 : isD (C p) = true) : den C n (n - p) p = den C n (n - (p + 1)) (p + 1) := by
  have e : n - p = (n - (p + 1)) + 1 := by omega
  rw [e, den, if_pos ⟨h, h2⟩]
theorem den_stop {p : Nat} (h : ¬ (p < n ∧ isD (C p) = true)) (k : Nat) : den C n k p = p := by
  cases k with
  | zero => rfl
  | succ k => rw [den, if_neg h]
theorem den_all : ∀ (k p q : Nat), p ≤ q → q < den C n k p → isD (C q) = true
  | 0, p, q, h, h2 => by unfold den at h2; omega
  | k + 1, p, q, h, h2 => by
    unfold den at h2
    split at h2
    · rename_i c
      by_cases e : p = q
      · subst e; exact c.2
      · exact den_all k (p + 1) q (by omega) h2
    · omega
/-- a token: where it begins and ends -/
def tkn (C : Nat → Nat) (n f t : Nat) : Prop := f ≤ n ∧ t = ends C n f
theorem ends_lt {f : Nat} (h : f < n) : f < ends C n f := by
  unfold ends
  rw [if_pos h]
  split
  · rename_i c
    rw [wen_step h c]
    exact wen_le _ (f + 1)
  · split
    · rename_i c
      rw [den_step h c]
      exact den_le _ (f + 1)
    · exact Nat.lt_succ_self f
theorem ends_n {f : Nat} (h : f ≤ n) : ends C n f ≤ n := by
  unfold ends
  split
  · split
    · exact wen_n _ _ h
    · split
      · exact den_n _ _ h
      · omega
  · exact h
theorem ends_ge (f : Nat) : f ≤ ends C n f := by
  by_cases h : f < n
  · exact Nat.le_of_lt (ends_lt h)
  · unfold ends
    rw [if_neg h]
    exact Nat.le_refl f
theorem nxf_ge (t : Nat) : t ≤ nxf C n t := skp_le _ _
theorem nxf_n {t : Nat} (h : t ≤ n) : nxf C n t ≤ n := skp_n _ _ h
theorem tkn.t_n {f t : Nat} (h : tkn C n f t) : t ≤ n := by rw [h.2]; exact ends_n h.1
theorem tkn.f_t {f t : Nat} (h : tkn C n f t) : f ≤ t := by rw [h.2]; exact ends_ge f
theorem tkn.lt {f t : Nat} (h : tkn C n f t) (hf : f < n) : f < t := by rw [h.2]; exact ends_lt hf
theorem tkn.next {f t : Nat} (h : tkn C n f t) : tkn C n (nxf C n t) (nxt C n t) := ⟨nxf_n h.t_n, rfl⟩
theorem tkn.next_lt {f t : Nat} (h : tkn C n f t) (hf : f < n) : f < nxf C n t := Nat.lt_of_lt_of_le (h.lt hf) (nxf_ge t)
theorem wd_len {f t : Nat} {s : List Nat} (h : wd C f t s = true) : t = f + s.length := by
  unfold wd at h
  rw [Bool.and_eq_true] at h
  exact of_decide_eq_true h.1
theorem wd_mat {f t : Nat} {s : List Nat} (h : wd C f t s = true) : mat C f s = true := by
  unfold wd at h
  rw [Bool.and_eq_true] at h
  exact h.2
theorem wd_lt {f t : Nat} {s : List Nat} (hk : tkn C n f t) (h : wd C f t s = true) (hs : 0 < s.length) : f < n := by
  have e := wd_len h
  have := hk.t_n
  omega
theorem vl_lt {f t x : Nat} (hk : tkn C n f t) (h : vl C n f t = some x) : f < n := by
  unfold vl at h
  split at h
  · rename_i c
    exact c.1
  · split at h
    · rename_i c
      unfold fct fctL at c
      by_cases h0 : f < n
      · exact h0
      · have ht : t = f := by
          have := hk.2
          unfold ends at this
          rw [if_neg h0] at this
          exact this
        have hw : ∀ s : List Nat, 0 < s.length → wd C f t s = false := fun s hs => by
          unfold wd
          rw [decide_eq_false (by omega)]
          rfl
        unfold fst1 at c
        rw [if_neg (by rw [hw _ (by decide)]; decide)] at c
        unfold fst1 at c
        rw [if_neg (by rw [hw _ (by decide)]; decide)] at c
        unfold fst1 at c
        rw [if_neg (by rw [hw _ (by decide)]; decide)] at c
        unfold fst1 at c
        rw [if_neg (by rw [hw _ (by decide)]; decide)] at c
        unfold fst1 at c
        rw [if_neg (by rw [hw _ (by decide)]; decide)] at c
        unfold fst1 at c
        rw [if_neg (by rw [hw _ (by decide)]; decide)] at c
        unfold fst1 at c
        omega
    · cases h
/-! the parser goes on, and ends -/
def pgo (C : Nat → Nat) (n m f : Nat) (r : tR) : Prop := match r with
  | .inl p => p ≤ n
  | .inr (_, f1, t1) => tkn C n f1 t1 ∧ (if m = 2 ∨ 4 ≤ m then f ≤ f1 else f < f1)
theorem prs_go : ∀ (k m : Nat) (ng : Bool) (o : Nat) (g : tG) (f t : Nat) (r : tR), tkn C n f t → prs C n k m ng o g f t = some r → pgo C n m f r
  | 0, m, ng, o, g, f, t, r, hk, h => by rw [prs_z] at h; cases h
  | k + 1, 0, ng, o, g, f, t, r, hk, h => by
    rw [prs_0] at h
    split at h
    · rename_i c
      have hf := wd_lt hk c (by decide)
      have ih := prs_go k 0 _ o g _ _ r hk.next h
      have h1 := hk.next_lt hf
      rcases r with p | ⟨g1, f1, t1⟩
      · exact ih
      · have ih2 : nxf C n t < f1 := ih.2
        exact ⟨ih.1, show f < f1 by omega⟩
    · split at h
      · rename_i c
        have hf := wd_lt hk c (by decide)
        have h1 := hk.next_lt hf
        split at h
        · cases hr : prs C n k 3 false (o + 1) g (nxf C n t) (nxt C n t) with
          | none => rw [hr] at h; cases h
          | some r1 =>
            have ih := prs_go k 3 _ _ g _ _ r1 hk.next hr
            rw [hr] at h
            rcases r1 with p | ⟨g1, f1, t1⟩
            · cases h; exact ih
            · have ih2 : nxf C n t < f1 := ih.2
              have h : (if wd C f1 t1 [41] = true then some (.inr (ngt ng g1, nxf C n t1, nxt C n t1)) else some (.inl f1)) = some r := h
              split at h
              · cases h
                have := nxf_ge (C := C) (n := n) t1
                have := ih.1.f_t
                exact ⟨ih.1.next, show f < nxf C n t1 by omega⟩
              · cases h
                exact ih.1.1
        · cases h; exact hk.1
      · split at h
        · cases h; exact hk.1
        · rename_i x hx
          have hf := vl_lt hk hx
          have h1 := hk.next_lt hf
          split at h
          · rename_i c2
            have h2 := hk.next.next_lt c2.1
            split at h
            · cases h; exact hk.next.next.1
            · rename_i y hy
              cases h
              have h3 := hk.next.next.next_lt (vl_lt hk.next.next hy)
              exact ⟨hk.next.next.next, show f < _ by omega⟩
          · cases h; exact hk.next.1
  | k + 1, 1, ng, o, g, f, t, r, hk, h => by
    rw [prs_1] at h
    cases hr : prs C n k 0 false o g f t with
    | none => rw [hr] at h; cases h
    | some r1 =>
      have ih := prs_go k 0 _ _ g _ _ r1 hk hr
      rw [hr] at h
      rcases r1 with p | ⟨g1, f1, t1⟩
      · cases h; exact ih
      · have ih2 : f < f1 := ih.2
        have ij := prs_go k 2 _ _ g1 _ _ r ih.1 h
        rcases r with p | ⟨g2, f2, t2⟩
        · exact ij
        · have ij2 : f1 ≤ f2 := ij.2
          exact ⟨ij.1, show f < f2 by omega⟩
  | k + 1, 2, ng, o, g, f, t, r, hk, h => by
    rw [prs_2] at h
    split at h
    · rename_i c
      have hf := wd_lt hk c (by decide)
      have h1 := hk.next_lt hf
      cases hr : prs C n k 0 false o g (nxf C n t) (nxt C n t) with
      | none => rw [hr] at h; cases h
      | some r1 =>
        have ih := prs_go k 0 _ _ g _ _ r1 hk.next hr
        rw [hr] at h
        rcases r1 with p | ⟨g1, f1, t1⟩
        · cases h; exact ih
        · have ih2 : nxf C n t < f1 := ih.2
          have ij := prs_go k 2 _ _ _ _ _ r ih.1 h
          rcases r with p | ⟨g2, f2, t2⟩
          · exact ij
          · have ij2 : f1 ≤ f2 := ij.2
            exact ⟨ij.1, show f ≤ f2 by omega⟩
    · cases h
      exact ⟨hk, show f ≤ f from Nat.le_refl f⟩
  | k + 1, 3, ng, o, g, f, t, r, hk, h => by
    rw [prs_3] at h
    cases hr : prs C n k 1 false o g f t with
    | none => rw [hr] at h; cases h
    | some r1 =>
      have ih := prs_go k 1 _ _ g _ _ r1 hk hr
      rw [hr] at h
      rcases r1 with p | ⟨g1, f1, t1⟩
      · cases h; exact ih
      · have ih2 : f < f1 := ih.2
        have ij := prs_go k 4 _ _ g1 _ _ r ih.1 h
        rcases r with p | ⟨g2, f2, t2⟩
        · exact ij
        · have ij2 : f1 ≤ f2 := ij.2
          exact ⟨ij.1, show f < f2 by omega⟩
  | k + 1, m + 4, ng, o, g, f, t, r, hk, h => by
    rw [prs_4] at h
    have hm : (m + 4 = 2 ∨ 4 ≤ m + 4) = True := eq_true (Or.inr (by omega))
    unfold pgo
    simp only [hm, if_true]
    split at h
    · rename_i c
      have hf := wd_lt hk c (by decide)
      have h1 := hk.next_lt hf
      cases hr : prs C n k 1 false o g (nxf C n t) (nxt C n t) with
      | none => rw [hr] at h; cases h
      | some r1 =>
        have ih := prs_go k 1 _ _ g _ _ r1 hk.next hr
        rw [hr] at h
        rcases r1 with p | ⟨g1, f1, t1⟩
        · cases h; exact ih
        · have ih2 : nxf C n t < f1 := ih.2
          have ij := prs_go k 4 _ _ _ _ _ r ih.1 h
          rcases r with p | ⟨g2, f2, t2⟩
          · exact ij
          · have ij2 : f1 ≤ f2 := ij.2
            exact ⟨ij.1, show f ≤ f2 by omega⟩
    · cases h
      exact ⟨hk, Nat.le_refl f⟩
theorem tbd_some {r : Option tR} {k : tG → Nat → Nat → Option tR} (h1 : r ≠ none) (h2 : ∀ g f t, r = some (.inr (g, f, t)) → k g f t ≠ none) : tbd r k ≠ none := by
  rcases r with _ | p | ⟨g, f, t⟩
  · exact absurd rfl h1
  · intro z; cases z
  · exact h2 g f t rfl
theorem prs_some : ∀ (k m : Nat) (ng : Bool) (o : Nat) (g : tG) (f t : Nat), tkn C n f t → 5 * (n - f) + (if m = 1 then 2 else if m = 3 then 3 else 1) ≤ k → prs C n k m ng o g f t ≠ none
  | 0, m, ng, o, g, f, t, hk, h => by split at h <;> (try split at h) <;> omega
  | k + 1, 0, ng, o, g, f, t, hk, h => by
    have h : 5 * (n - f) + 1 ≤ k + 1 := h
    rw [prs_0]
    split
    · rename_i c
      have hf := wd_lt hk c (by decide)
      have h1 := hk.next_lt hf
      exact prs_some k 0 _ o g _ _ hk.next (show 5 * (n - nxf C n t) + 1 ≤ k by omega)
    · split
      · rename_i c
        have hf := wd_lt hk c (by decide)
        have h1 := hk.next_lt hf
        split
        · refine tbd_some (prs_some k 3 _ _ g _ _ hk.next (show 5 * (n - nxf C n t) + 3 ≤ k by omega)) (fun g1 f1 t1 _ => ?_)
          split <;> (intro z; cases z)
        · intro z; cases z
      · split
        · intro z; cases z
        · split
          · split <;> (intro z; cases z)
          · intro z; cases z
  | k + 1, 1, ng, o, g, f, t, hk, h => by
    have h : 5 * (n - f) + 2 ≤ k + 1 := h
    rw [prs_1]
    refine tbd_some (prs_some k 0 _ _ g _ _ hk (show 5 * (n - f) + 1 ≤ k by omega)) (fun g1 f1 t1 e => ?_)
    have hp := prs_go k 0 _ _ g _ _ _ hk e
    have hp2 : f < f1 := hp.2
    exact prs_some k 2 _ _ _ _ _ hp.1 (show 5 * (n - f1) + 1 ≤ k by omega)
  | k + 1, 2, ng, o, g, f, t, hk, h => by
    have h : 5 * (n - f) + 1 ≤ k + 1 := h
    rw [prs_2]
    split
    · rename_i c
      have hf := wd_lt hk c (by decide)
      have h1 := hk.next_lt hf
      refine tbd_some (prs_some k 0 _ _ g _ _ hk.next (show 5 * (n - nxf C n t) + 1 ≤ k by omega)) (fun g1 f1 t1 e => ?_)
      have hp := prs_go k 0 _ _ g _ _ _ hk.next e
      have hp2 : nxf C n t < f1 := hp.2
      exact prs_some k 2 _ _ _ _ _ hp.1 (show 5 * (n - f1) + 1 ≤ k by omega)
    · intro z; cases z
  | k + 1, 3, ng, o, g, f, t, hk, h => by
    have h : 5 * (n - f) + 3 ≤ k + 1 := h
    rw [prs_3]
    refine tbd_some (prs_some k 1 _ _ g _ _ hk (show 5 * (n - f) + 2 ≤ k by omega)) (fun g1 f1 t1 e => ?_)
    have hp := prs_go k 1 _ _ g _ _ _ hk e
    have hp2 : f < f1 := hp.2
    exact prs_some k 4 _ _ _ _ _ hp.1 (show 5 * (n - f1) + 1 ≤ k by omega)
  | k + 1, m + 4, ng, o, g, f, t, hk, h => by
    have h : 5 * (n - f) + 1 ≤ k + 1 := by
      have e1 : ¬ m + 4 = 1 := by omega
      have e2 : ¬ m + 4 = 3 := by omega
      rw [if_neg e1, if_neg e2] at h
      exact h
    rw [prs_4]
    split
    · rename_i c
      have hf := wd_lt hk c (by decide)
      have h1 := hk.next_lt hf
      refine tbd_some (prs_some k 1 _ _ g _ _ hk.next (show 5 * (n - nxf C n t) + 2 ≤ k by omega)) (fun g1 f1 t1 e => ?_)
      have hp := prs_go k 1 _ _ g _ _ _ hk.next e
      have hp2 : nxf C n t < f1 := hp.2
      exact prs_some k 4 _ _ _ _ _ hp.1 (show 5 * (n - f1) + 1 ≤ k by omega)
    · intro z; cases z
end TXB
/-! codes: what a condition's signs answer -/
def exe (fs : Nat → Int32) : List Nat → List Bool → Option (List Bool)
  | [], st => some st
  | x :: l, st => if x = 40002 then (match st with
      | b :: st' => exe fs l ((!b) :: st')
      | [] => none)
    else if x = 40000 ∨ x = 40001 then (match st with
      | b :: a :: st' => exe fs l ((if x = 40000 then a && b else a || b) :: st')
      | _ => none)
    else if x < 20006 then (match l with
      | s :: y :: l' => if isS s = true ∧ y < 20006 then exe fs l' (tst x s y fs :: st) else none
      | _ => none)
    else none
/-- these signs push g's answer -/
def Ec (c : List Nat) (g : tG) : Prop := ∀ (fs : Nat → Int32) (l : List Nat) (st : List Bool), exe fs (c ++ l) st = exe fs l (g fs :: st)
theorem Ec_tst {x s y : Nat} (hx : x < 20006) (hs : isS s = true) (hy : y < 20006) : Ec [x, s, y] (tst x s y) := by
  intro fs l st
  show exe fs (x :: s :: y :: l) st = _
  rw [exe.eq_def]
  dsimp only
  rw [if_neg (by omega), if_neg (by omega), if_pos hx, if_pos ⟨hs, hy⟩]
theorem Ec_not {c : List Nat} {g : tG} (h : Ec c g) : Ec (c ++ [40002]) (fun fs => !g fs) := by
  intro fs l st
  rw [List.append_assoc, h]
  show exe fs (40002 :: l) (g fs :: st) = _
  rw [exe.eq_def]
  dsimp only
  rw [if_pos rfl]
theorem Ec_and {c1 c2 : List Nat} {g1 g2 : tG} (h1 : Ec c1 g1) (h2 : Ec c2 g2) : Ec (c1 ++ c2 ++ [40000]) (fun fs => g1 fs && g2 fs) := by
  intro fs l st
  rw [List.append_assoc, List.append_assoc, h1, h2]
  show exe fs (40000 :: l) (g2 fs :: g1 fs :: st) = _
  rw [exe.eq_def]
  dsimp only
  rw [if_neg (by decide), if_pos (Or.inl rfl), if_pos rfl]
theorem Ec_or {c1 c2 : List Nat} {g1 g2 : tG} (h1 : Ec c1 g1) (h2 : Ec c2 g2) : Ec (c1 ++ c2 ++ [40001]) (fun fs => g1 fs || g2 fs) := by
  intro fs l st
  rw [List.append_assoc, List.append_assoc, h1, h2]
  show exe fs (40001 :: l) (g2 fs :: g1 fs :: st) = _
  rw [exe.eq_def]
  dsimp only
  rw [if_neg (by decide), if_pos (Or.inr rfl), if_neg (by decide)]
theorem Ec.run {c : List Nat} {g : tG} (h : Ec c g) (fs : Nat → Int32) : exe fs c [] = some [g fs] := by
  have := h fs [] []
  rw [List.append_nil] at this
  rw [this]
  rfl
theorem Ec.cong {c : List Nat} {g g1 : tG} (h : Ec c g) (e : ∀ fs, g fs = g1 fs) : Ec c g1 := by
  intro fs l st
  rw [h, e]
/-! words as numbers -/
def wcode : List Nat → Nat
  | [] => 0
  | d :: l => 27 * wcode l + (d - 96)
theorem wcode_inj : ∀ {a b : List Nat}, (∀ x ∈ a, isL x = true) → (∀ x ∈ b, isL x = true) → wcode a = wcode b → a = b
  | [], [], _, _, _ => rfl
  | [], d :: b, _, hb, h => by
    have := hb d List.mem_cons_self
    unfold isL at this
    have := of_decide_eq_true this
    unfold wcode at h
    omega
  | d :: a, [], ha, _, h => by
    have := ha d List.mem_cons_self
    unfold isL at this
    have := of_decide_eq_true this
    unfold wcode at h
    omega
  | d :: a, e :: b, ha, hb, h => by
    have h1 := ha d List.mem_cons_self
    have h2 := hb e List.mem_cons_self
    unfold isL at h1 h2
    have h1 := of_decide_eq_true h1
    have h2 := of_decide_eq_true h2
    unfold wcode at h
    have e1 : d = e := by omega
    have e2 : wcode a = wcode b := by omega
    rw [e1, wcode_inj (fun x hx => ha x (List.mem_cons_of_mem _ hx)) (fun x hx => hb x (List.mem_cons_of_mem _ hx)) e2]
/-- the letters from f on, k of them, the last first -/
def ltr (C : Nat → Nat) (f : Nat) : Nat → List Nat
  | 0 => []
  | k + 1 => C (f + k) :: ltr C f k
theorem ltr_len (C : Nat → Nat) (f : Nat) : ∀ k, (ltr C f k).length = k
  | 0 => rfl
  | k + 1 => by
    show (ltr C f k).length + 1 = k + 1
    rw [ltr_len C f k]
theorem ltr_mem {C : Nat → Nat} {f : Nat} : ∀ {k x : Nat}, x ∈ ltr C f k → ∃ j, j < k ∧ x = C (f + j)
  | 0, x, h => by cases h
  | k + 1, x, h => by
    rcases List.mem_cons.mp h with e | e
    · exact ⟨k, Nat.lt_succ_self k, e⟩
    · obtain ⟨j, h1, h2⟩ := ltr_mem e
      exact ⟨j, by omega, h2⟩
theorem ltr_cons (C : Nat → Nat) (f : Nat) : ∀ k, ltr C f (k + 1) = ltr C (f + 1) k ++ [C f]
  | 0 => rfl
  | k + 1 => by
    show C (f + (k + 1)) :: ltr C f (k + 1) = C (f + 1 + k) :: ltr C (f + 1) k ++ [C f]
    rw [ltr_cons C f k, show f + (k + 1) = f + 1 + k by omega]
    rfl
theorem mat_ltr {C : Nat → Nat} : ∀ {s : List Nat} {f : Nat}, mat C f s = true ↔ ltr C f s.length = s.reverse
  | [], f => by
    unfold mat ltr
    simp
  | c :: s, f => by
    rw [List.length_cons, ltr_cons, List.reverse_cons]
    unfold mat
    rw [Bool.and_eq_true, decide_eq_true_iff, mat_ltr]
    constructor
    · rintro ⟨h1, h2⟩
      rw [h1, h2]
    · intro h
      have hl : (ltr C (f + 1) s.length).length = s.reverse.length := by rw [ltr_len, List.length_reverse]
      have := List.append_inj h hl
      exact ⟨by have := this.2; simpa using this, this.1⟩
/-- what the model holds of a name -/
def wordN (C : Nat → Nat) (f t : Nat) : Option Nat := if t ≤ f + 8 then some (wcode (ltr C f (t - f))) else none
theorem word_wd {C : Nat → Nat} {n f t : Nat} {s : List Nat} (hk : tkn C n f t) (hf : f < n) (hl : isL (C f) = true) (hs : ∀ x ∈ s, isL x = true) (h8 : s.length ≤ 8) : wd C f t s = true ↔ wordN C f t = some (wcode s.reverse) := by
  have ht : t = wen C n (n - f) f := by
    have := hk.2
    unfold ends at this
    rw [if_pos hf, if_pos hl] at this
    exact this
  have hft := hk.f_t
  unfold wordN wd
  rw [Bool.and_eq_true, decide_eq_true_iff]
  constructor
  · rintro ⟨h1, h2⟩
    rw [if_pos (by omega), show t - f = s.length by omega, mat_ltr.mp h2]
  · intro h
    split at h
    · have h := Option.some.inj h
      have e := wcode_inj (fun x hx => by
        obtain ⟨j, hj, rfl⟩ := ltr_mem hx
        exact wen_all (n := n) (n - f) f (f + j) (by omega) (by omega)) (fun x hx => hs x (List.mem_reverse.mp hx)) h
      have e2 : t - f = s.length := by
        have := congrArg List.length e
        rw [ltr_len, List.length_reverse] at this
        exact this
      refine ⟨by omega, mat_ltr.mpr ?_⟩
      rw [← e2]
      exact e
    · cases h
theorem wd_hd {C : Nat → Nat} {f t c : Nat} {s : List Nat} (h : wd C f t (c :: s) = true) : C f = c := by
  have := wd_mat h
  unfold mat at this
  rw [Bool.and_eq_true] at this
  exact of_decide_eq_true this.1
/-- a mark -/
theorem mark_wd {C : Nat → Nat} {n f t c : Nat} (hk : tkn C n f t) (hc : isL c = false ∧ isD c = false) : wd C f t [c] = true ↔ f < n ∧ C f = c := by
  constructor
  · intro h
    exact ⟨wd_lt hk h (by simp), wd_hd h⟩
  · rintro ⟨h1, h2⟩
    have ht := hk.2
    unfold ends at ht
    rw [if_pos h1, h2, hc.1, hc.2, if_neg (by decide), if_neg (by decide)] at ht
    unfold wd mat
    rw [Bool.and_eq_true, decide_eq_true_iff, ht]
    refine ⟨rfl, ?_⟩
    rw [h2]
    simp [mat]
/-! clauses -/
abbrev tK : Type := List (Nat × tG)
/-- the clause's doing: 0 wake, 1 and more a place; 9 none -/
def dng (C : Nat → Nat) (f t : Nat) : Nat := if fst1 C f t actL < 4 then fst1 C f t actL + 1 else if wd C f t [119, 97, 107, 101] = true then 0 else 9
def cls1 (C : Nat → Nat) (n : Nat) (m f t : Nat) : Option (Nat ⊕ ((Nat × tG) × Nat × Nat)) :=
  if dng C f t < 9 ∧ m < 8 then
    (if wd C (nxf C n t) (nxt C n t) [105, 102] = true then
      (match prs C n (5 * n + 3) 3 false 0 (fun _ => true) (nxf C n (nxt C n t)) (nxt C n (nxt C n t)) with
      | none => none
      | some (.inl p) => some (.inl p)
      | some (.inr (g, f1, t1)) => if wd C f1 t1 [59] = true then some (.inr ((dng C f t, g), nxf C n t1, nxt C n t1)) else some (.inl f1))
    else some (.inl (nxf C n t)))
  else some (.inl f)
def rdK (C : Nat → Nat) (n : Nat) : Nat → tK → Nat → Nat → Option (Nat ⊕ tK)
  | 0, _, _, _ => none
  | k + 1, K, f, t => if f < n then (match cls1 C n K.length f t with
      | none => none
      | some (.inl p) => some (.inl p)
      | some (.inr (z, f1, t1)) => rdK C n k (K ++ [z]) f1 t1) else some (.inr K)
theorem dng_lt {C : Nat → Nat} {n f t : Nat} (hk : tkn C n f t) (h : dng C f t < 9) : f < n := by
  by_cases h0 : f < n
  · exact h0
  · have ht : t = f := by
      have := hk.2
      unfold ends at this
      rw [if_neg h0] at this
      exact this
    have hw : ∀ s : List Nat, 0 < s.length → wd C f t s = false := fun s hs => by
      unfold wd
      rw [decide_eq_false (by omega)]
      rfl
    unfold dng actL at h
    simp [fst1, hw] at h
theorem cls1_go {C : Nat → Nat} {n m f t : Nat} (hk : tkn C n f t) (h : f < n) : ∃ r, cls1 C n m f t = some r ∧ (match r with
    | .inl p => p ≤ n
    | .inr (_, f1, t1) => tkn C n f1 t1 ∧ f < f1) := by
  unfold cls1
  split
  · split
    · have h1 := hk.next_lt h
      have hs := prs_some (C := C) (n := n) (5 * n + 3) 3 false 0 (fun _ => true) _ _ hk.next.next (show 5 * (n - nxf C n (nxt C n t)) + 3 ≤ 5 * n + 3 by omega)
      cases hr : prs C n (5 * n + 3) 3 false 0 (fun _ => true) (nxf C n (nxt C n t)) (nxt C n (nxt C n t)) with
      | none => exact absurd hr hs
      | some r =>
        have hg := prs_go _ _ _ _ _ _ _ _ hk.next.next hr
        rcases r with p | ⟨g, f1, t1⟩
        · exact ⟨_, rfl, hg⟩
        · have h2 : nxf C n (nxt C n t) < f1 := hg.2
          have h3 := nxf_ge (C := C) (n := n) (nxt C n t)
          have h4 := hk.next.f_t
          dsimp only
          split
          · refine ⟨_, rfl, hg.1.next, ?_⟩
            have h5 := nxf_ge (C := C) (n := n) t1
            have h6 := hg.1.f_t
            show f < nxf C n t1
            omega
          · exact ⟨_, rfl, hg.1.1⟩
    · exact ⟨_, rfl, hk.next.1⟩
  · exact ⟨_, rfl, hk.1⟩
theorem rdK_some {C : Nat → Nat} {n : Nat} : ∀ (k : Nat) (K : tK) (f t : Nat), tkn C n f t → n - f < k → rdK C n k K f t ≠ none
  | 0, _, _, _, _, h => by omega
  | k + 1, K, f, t, hk, h => by
    unfold rdK
    split
    · rename_i h0
      obtain ⟨r, e, hr⟩ := cls1_go (m := K.length) hk h0
      rw [e]
      rcases r with p | ⟨z, f1, t1⟩
      · intro z; cases z
      · have h2 : f < f1 := hr.2
        exact rdK_some k _ _ _ hr.1 (by omega)
    · intro z; cases z
theorem rdK_len {C : Nat → Nat} {n : Nat} : ∀ (k : Nat) (K K1 : tK) (f t : Nat), K.length ≤ 8 → rdK C n k K f t = some (.inr K1) → K1.length ≤ 8
  | 0, _, _, _, _, _, h => by unfold rdK at h; cases h
  | k + 1, K, K1, f, t, h8, h => by
    unfold rdK at h
    split at h
    · split at h
      · cases h
      · cases h
      · rename_i z f1 t1 hc
        refine rdK_len k _ K1 f1 t1 ?_ h
        unfold cls1 at hc
        split at hc
        · rename_i c
          rw [List.length_append]
          exact c.2
        · cases hc
    · cases h
      exact h8
