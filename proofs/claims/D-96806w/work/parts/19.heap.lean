/-! THE HEAP AS A FRAME (gen_heap.py): 89 entries, then a tail -/
set_option maxRecDepth 100000
abbrev mx_Sg : Type := (Nat → Nat → Int32) × (Nat → Nat → Value) × (Nat → Nat → Int64) × (Nat → Nat → Int32) × (Nat → Nat → Int64) × (Nat → Nat → Option Nat)
def sI (S : mx_Sg) (p k : Nat) : Int32 := S.1 p k
def sR (S : mx_Sg) (p k : Nat) : Value := S.2.1 p k
def sL (S : mx_Sg) (p k : Nat) : Int64 := S.2.2.1 p k
def sA (S : mx_Sg) (p : Nat) : Nat → Int32 := S.2.2.2.1 p
def sB (S : mx_Sg) (p : Nat) : Nat → Int64 := S.2.2.2.2.1 p
def sQ (S : mx_Sg) (p : Nat) : Nat → Option Nat := S.2.2.2.2.2 p
def stI (S : mx_Sg) (p k : Nat) (v : Int32) : mx_Sg := (fun p' k' => if p' = p ∧ k' = k then v else S.1 p' k', S.2)
def stR (S : mx_Sg) (p k : Nat) (v : Value) : mx_Sg := (S.1, fun p' k' => if p' = p ∧ k' = k then v else S.2.1 p' k', S.2.2)
def stL (S : mx_Sg) (p k : Nat) (v : Int64) : mx_Sg := (S.1, S.2.1, fun p' k' => if p' = p ∧ k' = k then v else S.2.2.1 p' k', S.2.2.2)
def stA (S : mx_Sg) (p : Nat) (f : Nat → Int32) : mx_Sg := (S.1, S.2.1, S.2.2.1, fun p' => if p' = p then f else S.2.2.2.1 p', S.2.2.2.2)
def stB (S : mx_Sg) (p : Nat) (f : Nat → Int64) : mx_Sg := (S.1, S.2.1, S.2.2.1, S.2.2.2.1, fun p' => if p' = p then f else S.2.2.2.2.1 p', S.2.2.2.2.2)
def stQ (S : mx_Sg) (p : Nat) (f : Nat → Option Nat) : mx_Sg := (S.1, S.2.1, S.2.2.1, S.2.2.2.1, S.2.2.2.2.1, fun p' => if p' = p then f else S.2.2.2.2.2 p')
theorem sI_stI {S : mx_Sg} {p k : Nat} {v : Int32} {p' k' : Nat} : sI (stI S p k v) p' k' = if p' = p ∧ k' = k then v else sI S p' k' := rfl
theorem sR_stI {S : mx_Sg} {p k : Nat} {v : Int32} {p' k' : Nat} : sR (stI S p k v) p' k' = sR S p' k' := rfl
theorem sL_stI {S : mx_Sg} {p k : Nat} {v : Int32} {p' k' : Nat} : sL (stI S p k v) p' k' = sL S p' k' := rfl
theorem sA_stI {S : mx_Sg} {p k : Nat} {v : Int32} {p' : Nat} : sA (stI S p k v) p' = sA S p' := rfl
theorem sB_stI {S : mx_Sg} {p k : Nat} {v : Int32} {p' : Nat} : sB (stI S p k v) p' = sB S p' := rfl
theorem sQ_stI {S : mx_Sg} {p k : Nat} {v : Int32} {p' : Nat} : sQ (stI S p k v) p' = sQ S p' := rfl
theorem sI_stR {S : mx_Sg} {p k : Nat} {v : Value} {p' k' : Nat} : sI (stR S p k v) p' k' = sI S p' k' := rfl
theorem sR_stR {S : mx_Sg} {p k : Nat} {v : Value} {p' k' : Nat} : sR (stR S p k v) p' k' = if p' = p ∧ k' = k then v else sR S p' k' := rfl
theorem sL_stR {S : mx_Sg} {p k : Nat} {v : Value} {p' k' : Nat} : sL (stR S p k v) p' k' = sL S p' k' := rfl
theorem sA_stR {S : mx_Sg} {p k : Nat} {v : Value} {p' : Nat} : sA (stR S p k v) p' = sA S p' := rfl
theorem sB_stR {S : mx_Sg} {p k : Nat} {v : Value} {p' : Nat} : sB (stR S p k v) p' = sB S p' := rfl
theorem sQ_stR {S : mx_Sg} {p k : Nat} {v : Value} {p' : Nat} : sQ (stR S p k v) p' = sQ S p' := rfl
theorem sI_stL {S : mx_Sg} {p k : Nat} {v : Int64} {p' k' : Nat} : sI (stL S p k v) p' k' = sI S p' k' := rfl
theorem sR_stL {S : mx_Sg} {p k : Nat} {v : Int64} {p' k' : Nat} : sR (stL S p k v) p' k' = sR S p' k' := rfl
theorem sL_stL {S : mx_Sg} {p k : Nat} {v : Int64} {p' k' : Nat} : sL (stL S p k v) p' k' = if p' = p ∧ k' = k then v else sL S p' k' := rfl
theorem sA_stL {S : mx_Sg} {p k : Nat} {v : Int64} {p' : Nat} : sA (stL S p k v) p' = sA S p' := rfl
theorem sB_stL {S : mx_Sg} {p k : Nat} {v : Int64} {p' : Nat} : sB (stL S p k v) p' = sB S p' := rfl
theorem sQ_stL {S : mx_Sg} {p k : Nat} {v : Int64} {p' : Nat} : sQ (stL S p k v) p' = sQ S p' := rfl
theorem sI_stA {S : mx_Sg} {p : Nat} {v : Nat → Int32} {p' k' : Nat} : sI (stA S p v) p' k' = sI S p' k' := rfl
theorem sR_stA {S : mx_Sg} {p : Nat} {v : Nat → Int32} {p' k' : Nat} : sR (stA S p v) p' k' = sR S p' k' := rfl
theorem sL_stA {S : mx_Sg} {p : Nat} {v : Nat → Int32} {p' k' : Nat} : sL (stA S p v) p' k' = sL S p' k' := rfl
theorem sA_stA {S : mx_Sg} {p : Nat} {v : Nat → Int32} {p' : Nat} : sA (stA S p v) p' = if p' = p then v else sA S p' := rfl
theorem sB_stA {S : mx_Sg} {p : Nat} {v : Nat → Int32} {p' : Nat} : sB (stA S p v) p' = sB S p' := rfl
theorem sQ_stA {S : mx_Sg} {p : Nat} {v : Nat → Int32} {p' : Nat} : sQ (stA S p v) p' = sQ S p' := rfl
theorem sI_stB {S : mx_Sg} {p : Nat} {v : Nat → Int64} {p' k' : Nat} : sI (stB S p v) p' k' = sI S p' k' := rfl
theorem sR_stB {S : mx_Sg} {p : Nat} {v : Nat → Int64} {p' k' : Nat} : sR (stB S p v) p' k' = sR S p' k' := rfl
theorem sL_stB {S : mx_Sg} {p : Nat} {v : Nat → Int64} {p' k' : Nat} : sL (stB S p v) p' k' = sL S p' k' := rfl
theorem sA_stB {S : mx_Sg} {p : Nat} {v : Nat → Int64} {p' : Nat} : sA (stB S p v) p' = sA S p' := rfl
theorem sB_stB {S : mx_Sg} {p : Nat} {v : Nat → Int64} {p' : Nat} : sB (stB S p v) p' = if p' = p then v else sB S p' := rfl
theorem sQ_stB {S : mx_Sg} {p : Nat} {v : Nat → Int64} {p' : Nat} : sQ (stB S p v) p' = sQ S p' := rfl
theorem sI_stQ {S : mx_Sg} {p : Nat} {v : Nat → Option Nat} {p' k' : Nat} : sI (stQ S p v) p' k' = sI S p' k' := rfl
theorem sR_stQ {S : mx_Sg} {p : Nat} {v : Nat → Option Nat} {p' k' : Nat} : sR (stQ S p v) p' k' = sR S p' k' := rfl
theorem sL_stQ {S : mx_Sg} {p : Nat} {v : Nat → Option Nat} {p' k' : Nat} : sL (stQ S p v) p' k' = sL S p' k' := rfl
theorem sA_stQ {S : mx_Sg} {p : Nat} {v : Nat → Option Nat} {p' : Nat} : sA (stQ S p v) p' = sA S p' := rfl
theorem sB_stQ {S : mx_Sg} {p : Nat} {v : Nat → Option Nat} {p' : Nat} : sB (stQ S p v) p' = sB S p' := rfl
theorem sQ_stQ {S : mx_Sg} {p : Nat} {v : Nat → Option Nat} {p' : Nat} : sQ (stQ S p v) p' = if p' = p then v else sQ S p' := rfl
/-- what lies where: (0, class, 0), (1, type of array, length) -/
def mx_ktL : List (Nat × Nat × Nat) := [(0, 0, 0), (0, 1, 0), (1, 0, 24), (1, 0, 24), (1, 0, 5), (1, 0, 10), (1, 0, 10), (1, 0, 8), (1, 5, 8), (0, 2, 0), (0, 1, 0), (1, 0, 24), (1, 0, 24), (1, 0, 5), (1, 0, 10), (1, 0, 10), (1, 0, 8), (1, 5, 8), (0, 2, 0), (0, 1, 0), (1, 0, 24), (1, 0, 24), (1, 0, 5), (1, 0, 10), (1, 0, 10), (1, 0, 8), (1, 5, 8), (0, 2, 0), (0, 2, 0), (0, 2, 0), (1, 6, 6), (0, 4, 0), (0, 5, 0), (0, 6, 0), (0, 7, 0), (0, 8, 0), (0, 9, 0), (1, 1, 200), (0, 10, 0), (1, 7, 6), (1, 7, 4), (0, 11, 0), (1, 0, 6), (0, 13, 0), (1, 8, 24), (0, 14, 0), (0, 15, 0), (1, 9, 4), (0, 16, 0), (0, 16, 0), (0, 16, 0), (0, 16, 0), (0, 17, 0), (0, 18, 0), (1, 0, 30), (1, 10, 4), (0, 19, 0), (0, 19, 0), (0, 19, 0), (0, 19, 0), (0, 20, 0), (1, 0, 21), (1, 0, 7), (1, 0, 7), (1, 0, 24), (1, 0, 24), (1, 0, 5), (1, 0, 5), (1, 0, 5), (1, 0, 20), (1, 0, 24), (1, 0, 200), (1, 0, 200), (1, 0, 6), (1, 0, 200), (1, 0, 200), (1, 4, 100), (1, 0, 24), (1, 0, 72), (1, 0, 72), (1, 0, 4), (1, 0, 4), (1, 3, 160), (1, 0, 4), (1, 0, 4), (1, 0, 4), (1, 0, 30), (1, 0, 310), (1, 0, 3)]
def mx_kt (p : Nat) : Nat × Nat × Nat := (mx_ktL[p]?).getD (2, 0, 0)
/-- the kinds of fields: 0 an int, 1 a long, 2 a reference that changes, 3 a reference that stays -/
def mx_fk (c : Nat) : List Nat := match c with
  | 0 => [3, 3, 3, 3, 3, 0, 3, 3, 0, 3, 3, 3, 0, 0, 0, 3, 0, 3, 3, 3, 3, 3, 3, 0, 3]
  | 1 => [0, 0, 0, 3, 3, 3, 3, 3, 3, 3, 3]
  | 2 => [0, 0, 0, 0, 0, 0, 0]
  | 4 => [3, 3]
  | 5 => [3, 3, 3]
  | 6 => [3, 3, 3]
  | 7 => [3, 3, 3, 3]
  | 8 => [3, 3, 3, 3]
  | 9 => [3, 3, 3]
  | 10 => [3, 3, 0, 3, 3, 2, 0, 0, 0]
  | 11 => [2, 2, 2, 2, 2, 0, 0]
  | 13 => [0, 3, 3]
  | 14 => [0, 3, 3]
  | 15 => [0, 3, 0, 3]
  | 16 => [2, 2, 2, 2, 0]
  | 17 => [2, 2, 2, 2, 2, 0]
  | 18 => [2, 2, 2, 2, 2, 0]
  | 19 => [0, 0, 2]
  | 20 => [3, 0, 3, 3, 3, 3, 3, 3, 3, 0, 3, 0, 3, 3, 0, 3, 0, 0, 0, 0, 1, 0, 0, 3, 3, 3, 0, 0, 0, 3, 3, 3, 0, 0, 0, 0, 3, 0, 3, 3, 3, 3, 3, 3, 0, 0, 0, 3, 0, 0, 0, 3, 0, 3]
  | _ => []
def mx_fxL : List ((Nat × Nat) × Nat) := [((0, 0), 1), ((0, 1), 10), ((0, 2), 19), ((0, 3), 28), ((0, 4), 29), ((0, 6), 30), ((0, 7), 37), ((0, 9), 38), ((0, 10), 42), ((0, 11), 43), ((0, 15), 44), ((0, 17), 45), ((0, 18), 46), ((0, 19), 47), ((0, 20), 52), ((0, 21), 53), ((0, 22), 54), ((0, 24), 55), ((1, 3), 2), ((1, 4), 3), ((1, 5), 4), ((1, 6), 5), ((1, 7), 6), ((1, 8), 7), ((1, 9), 8), ((1, 10), 9), ((10, 3), 11), ((10, 4), 12), ((10, 5), 13), ((10, 6), 14), ((10, 7), 15), ((10, 8), 16), ((10, 9), 17), ((10, 10), 18), ((19, 3), 20), ((19, 4), 21), ((19, 5), 22), ((19, 6), 23), ((19, 7), 24), ((19, 8), 25), ((19, 9), 26), ((19, 10), 27), ((31, 0), 0), ((31, 1), 0), ((32, 0), 0), ((32, 1), 0), ((32, 2), 0), ((33, 0), 0), ((33, 1), 0), ((33, 2), 0), ((34, 0), 0), ((34, 1), 0), ((34, 2), 0), ((34, 3), 0), ((35, 0), 0), ((35, 1), 0), ((35, 2), 0), ((35, 3), 0), ((36, 0), 0), ((36, 1), 0), ((36, 2), 0), ((38, 0), 39), ((38, 1), 40), ((38, 3), 41), ((38, 4), 19), ((43, 1), 0), ((43, 2), 0), ((45, 1), 0), ((45, 2), 0), ((46, 1), 0), ((46, 3), 0), ((60, 0), 61), ((60, 2), 62), ((60, 3), 63), ((60, 4), 64), ((60, 5), 65), ((60, 6), 66), ((60, 7), 67), ((60, 8), 68), ((60, 10), 69), ((60, 12), 70), ((60, 13), 71), ((60, 15), 72), ((60, 23), 73), ((60, 24), 74), ((60, 25), 75), ((60, 29), 76), ((60, 30), 77), ((60, 31), 78), ((60, 36), 79), ((60, 38), 80), ((60, 39), 81), ((60, 40), 82), ((60, 41), 83), ((60, 42), 84), ((60, 43), 85), ((60, 47), 86), ((60, 51), 87), ((60, 53), 88)]
def mx_fx (p k : Nat) : Nat := (mx_fxL.lookup (p, k)).getD 0
def OF (S : mx_Sg) (c p k : Nat) : Value := match (mx_fk c)[k]? with
  | some 0 => .int (sI S p k)
  | some 1 => .long (sL S p k)
  | some 3 => .ref (mx_fx p k)
  | _ => sR S p k
def HE (S : mx_Sg) (p : Nat) : mx_E := if (mx_kt p).1 = 0 then .inr ((mx_kt p).2.1, OF S (mx_kt p).2.1 p) else if (mx_kt p).2.1 = 3 then .inl (3, (mx_kt p).2.2, .inr (.inl (sB S p)))
  else if (mx_kt p).2.1 < 5 then .inl ((mx_kt p).2.1, (mx_kt p).2.2, .inl (sA S p)) else .inl ((mx_kt p).2.1, (mx_kt p).2.2, .inr (.inr (sQ S p)))
theorem he_ob {S : mx_Sg} {p c : Nat} (hk : mx_kt p = (0, c, 0)) : HE S p = .inr (c, OF S c p) := by
  unfold HE
  rw [hk, if_pos rfl]
theorem he_A {S : mx_Sg} {p t n : Nat} (hk : mx_kt p = (1, t, n)) (ht : t < 5) (h3 : t ≠ 3) : HE S p = .inl (t, n, .inl (sA S p)) := by
  unfold HE
  rw [hk, if_neg Nat.one_ne_zero, if_neg h3, if_pos ht]
theorem he_B {S : mx_Sg} {p n : Nat} (hk : mx_kt p = (1, 3, n)) : HE S p = .inl (3, n, .inr (.inl (sB S p))) := by
  unfold HE
  rw [hk, if_neg Nat.one_ne_zero, if_pos rfl]
theorem he_Q {S : mx_Sg} {p t n : Nat} (hk : mx_kt p = (1, t, n)) (ht : ¬ t < 5) : HE S p = .inl (t, n, .inr (.inr (sQ S p))) := by
  unfold HE
  rw [hk, if_neg Nat.one_ne_zero, if_neg (fun z => ht (by rw [show t = 3 from z]; decide)), if_neg ht]
def HH (q : mx_Q) (S : mx_Sg) (tl : List mx_E) : mx_H := (q, (List.range 89).map (HE S) ++ tl)
section MXH
variable {q : mx_Q} {S : mx_Sg} {tl : List mx_E} {p c k n t : Nat}
theorem hh_at (hp : p < 89) : (HH q S tl).2[p]? = some (HE S p) := by
  unfold HH
  rw [List.getElem?_append_left (by simpa using hp), List.getElem?_map, List.getElem?_range hp]
  rfl
theorem hh_len : (HH q S tl).2.length = 89 + tl.length := by
  unfold HH
  simp
theorem hh_1 : (HH q S tl).1 = q := rfl
theorem hh_psh {e : mx_E} : mx_psh (HH q S tl) n e = HH (mx_bump q 1 n) S (tl ++ [e]) := by
  unfold mx_psh HH
  simp
theorem hh_vmx : mx_vmx (HH q S tl) = HH (mx_bump q 3 mx_NB) S tl := rfl
theorem hh_tail {j : Nat} : (HH q S tl).2[89 + j]? = tl[j]? := by
  unfold HH
  rw [List.getElem?_append_right (by simp)]
  simp
theorem hh_ext {S1 : mx_Sg} {e : mx_E} (hp : p < 89) (he : HE S1 p = e) (ho : ∀ p', p' ≠ p → HE S1 p' = HE S p') : mx_set (HH q S tl) p e = HH q S1 tl := by
  unfold mx_set HH
  have hl : p < ((List.range 89).map (HE S)).length := by simpa using hp
  rw [List.set_append_left _ _ hl]
  refine congrArg (fun z => (q, z ++ tl)) (List.ext_getElem? fun j => ?_)
  by_cases hj : j = p
  · subst hj
    rw [List.getElem?_set_self hl, List.getElem?_map, List.getElem?_range hp, ← he]
    rfl
  · rw [List.getElem?_set_ne (Ne.symm hj), List.getElem?_map, List.getElem?_map]
    by_cases hj2 : j < 89
    · rw [List.getElem?_range hj2]
      exact congrArg some (ho j hj).symm
    · rw [List.getElem?_eq_none (by simpa using hj2)]
      rfl
theorem ob_ok (hp : p < 89) (hk : mx_kt p = (0, c, 0)) : mx_obj (HH q S tl) p = some (c, OF S c p) := by
  unfold mx_obj
  rw [hh_at hp, he_ob hk]
theorem kd_ok (hp : p < 89) (hk : mx_kt p = (0, c, 0)) : mx_kd (HH q S tl) p = c := by
  unfold mx_kd
  rw [hh_at hp, he_ob hk]
theorem he_ne {S1 : mx_Sg} {p' : Nat} (h1 : ∀ k, sI S1 p' k = sI S p' k) (h2 : ∀ k, sR S1 p' k = sR S p' k) (h3 : ∀ k, sL S1 p' k = sL S p' k) (h4 : sA S1 p' = sA S p') (h5 : sB S1 p' = sB S p') (h6 : sQ S1 p' = sQ S p') : HE S1 p' = HE S p' := by
  have hof : ∀ c, OF S1 c p' = OF S c p' := by
    intro c
    funext k
    unfold OF
    rw [h1, h2, h3]
  unfold HE
  rw [h4, h5, h6, hof]
theorem stI_ok {v : Int32} (hp : p < 89) (hk : mx_kt p = (0, c, 0)) (hf : (mx_fk c)[k]? = some 0) : mx_set (HH q S tl) p (.inr (c, va_up (OF S c p) k (.int v))) = HH q (stI S p k v) tl := by
  refine hh_ext hp ?_ (fun p' hne => he_ne (fun k' => ?_) (fun _ => rfl) (fun _ => rfl) rfl rfl rfl)
  · rw [he_ob hk]
    refine congrArg (fun z => Sum.inr (c, z)) (funext fun j => ?_)
    unfold va_up OF
    by_cases hj : j = k
    · subst hj
      rw [hf, if_pos rfl]
      simp [sI_stI]
    · rw [if_neg hj]
      simp [sI_stI, sL_stI, sR_stI, hj]
  · rw [sI_stI, if_neg (fun z => hne z.1)]
theorem stL_ok {v : Int64} (hp : p < 89) (hk : mx_kt p = (0, c, 0)) (hf : (mx_fk c)[k]? = some 1) : mx_set (HH q S tl) p (.inr (c, va_up (OF S c p) k (.long v))) = HH q (stL S p k v) tl := by
  refine hh_ext hp ?_ (fun p' hne => he_ne (fun _ => rfl) (fun _ => rfl) (fun k' => ?_) rfl rfl rfl)
  · rw [he_ob hk]
    refine congrArg (fun z => Sum.inr (c, z)) (funext fun j => ?_)
    unfold va_up OF
    by_cases hj : j = k
    · subst hj
      rw [hf, if_pos rfl]
      simp [sL_stL]
    · rw [if_neg hj]
      simp [sI_stL, sL_stL, sR_stL, hj]
  · rw [sL_stL, if_neg (fun z => hne z.1)]
theorem stR_ok {v : Value} (hp : p < 89) (hk : mx_kt p = (0, c, 0)) (hf : (mx_fk c)[k]? = some 2) : mx_set (HH q S tl) p (.inr (c, va_up (OF S c p) k v)) = HH q (stR S p k v) tl := by
  refine hh_ext hp ?_ (fun p' hne => he_ne (fun _ => rfl) (fun k' => ?_) (fun _ => rfl) rfl rfl rfl)
  · rw [he_ob hk]
    refine congrArg (fun z => Sum.inr (c, z)) (funext fun j => ?_)
    unfold va_up OF
    by_cases hj : j = k
    · subst hj
      rw [hf, if_pos rfl]
      simp [sR_stR]
    · rw [if_neg hj]
      simp [sI_stR, sL_stR, sR_stR, hj]
  · rw [sR_stR, if_neg (fun z => hne z.1)]
theorem arA_ok (hp : p < 89) (hk : mx_kt p = (1, t, n)) (ht : t < 5) (h3 : t ≠ 3) : mx_arr (HH q S tl) p = some (t, n, .inl (sA S p)) := by
  unfold mx_arr
  rw [hh_at hp, he_A hk ht h3]
theorem arB_ok (hp : p < 89) (hk : mx_kt p = (1, 3, n)) : mx_arr (HH q S tl) p = some (3, n, .inr (.inl (sB S p))) := by
  unfold mx_arr
  rw [hh_at hp, he_B hk]
theorem arQ_ok (hp : p < 89) (hk : mx_kt p = (1, t, n)) (ht : ¬ t < 5) : mx_arr (HH q S tl) p = some (t, n, .inr (.inr (sQ S p))) := by
  unfold mx_arr
  rw [hh_at hp, he_Q hk ht]
theorem kdA_ok (hp : p < 89) (hk : mx_kt p = (1, t, n)) (ht : t < 5) (h3 : t ≠ 3) : mx_kd (HH q S tl) p = 100 + t := by
  unfold mx_kd
  rw [hh_at hp, he_A hk ht h3]
theorem stA_ok {f : Nat → Int32} (hp : p < 89) (hk : mx_kt p = (1, t, n)) (ht : t < 5) (h3 : t ≠ 3) : mx_set (HH q S tl) p (.inl (t, n, .inl f)) = HH q (stA S p f) tl := by
  refine hh_ext hp ?_ (fun p' hne => he_ne (fun _ => rfl) (fun _ => rfl) (fun _ => rfl) ?_ rfl rfl)
  · rw [he_A hk ht h3, sA_stA, if_pos rfl]
  · rw [sA_stA, if_neg hne]
theorem stB_ok {f : Nat → Int64} (hp : p < 89) (hk : mx_kt p = (1, 3, n)) : mx_set (HH q S tl) p (.inl (3, n, .inr (.inl f))) = HH q (stB S p f) tl := by
  refine hh_ext hp ?_ (fun p' hne => he_ne (fun _ => rfl) (fun _ => rfl) (fun _ => rfl) rfl ?_ rfl)
  · rw [he_B hk, sB_stB, if_pos rfl]
  · rw [sB_stB, if_neg hne]
theorem stQ_ok {f : Nat → Option Nat} (hp : p < 89) (hk : mx_kt p = (1, t, n)) (ht : ¬ t < 5) : mx_set (HH q S tl) p (.inl (t, n, .inr (.inr f))) = HH q (stQ S p f) tl := by
  refine hh_ext hp ?_ (fun p' hne => he_ne (fun _ => rfl) (fun _ => rfl) (fun _ => rfl) rfl rfl ?_)
  · rw [he_Q hk ht, sQ_stQ, if_pos rfl]
  · rw [sQ_stQ, if_neg hne]
theorem ob0 : mx_obj (HH q S tl) 0 = some (0, OF S 0 0) := ob_ok (by decide) rfl
theorem kd0 : mx_kd (HH q S tl) 0 = 0 := kd_ok (by decide) rfl
theorem of0_0 : OF S 0 0 0 = .ref 1 := rfl
theorem of0_1 : OF S 0 0 1 = .ref 10 := rfl
theorem of0_2 : OF S 0 0 2 = .ref 19 := rfl
theorem of0_3 : OF S 0 0 3 = .ref 28 := rfl
theorem of0_4 : OF S 0 0 4 = .ref 29 := rfl
theorem wi0_5 {v : Int32} : mx_set (HH q S tl) 0 (.inr (0, va_up (OF S 0 0) 5 (.int v))) = HH q (stI S 0 5 v) tl := stI_ok (by decide) rfl rfl
theorem of0_6 : OF S 0 0 6 = .ref 30 := rfl
theorem of0_7 : OF S 0 0 7 = .ref 37 := rfl
theorem wi0_8 {v : Int32} : mx_set (HH q S tl) 0 (.inr (0, va_up (OF S 0 0) 8 (.int v))) = HH q (stI S 0 8 v) tl := stI_ok (by decide) rfl rfl
theorem of0_9 : OF S 0 0 9 = .ref 38 := rfl
theorem of0_10 : OF S 0 0 10 = .ref 42 := rfl
theorem of0_11 : OF S 0 0 11 = .ref 43 := rfl
theorem wi0_12 {v : Int32} : mx_set (HH q S tl) 0 (.inr (0, va_up (OF S 0 0) 12 (.int v))) = HH q (stI S 0 12 v) tl := stI_ok (by decide) rfl rfl
theorem wi0_13 {v : Int32} : mx_set (HH q S tl) 0 (.inr (0, va_up (OF S 0 0) 13 (.int v))) = HH q (stI S 0 13 v) tl := stI_ok (by decide) rfl rfl
theorem wi0_14 {v : Int32} : mx_set (HH q S tl) 0 (.inr (0, va_up (OF S 0 0) 14 (.int v))) = HH q (stI S 0 14 v) tl := stI_ok (by decide) rfl rfl
theorem of0_15 : OF S 0 0 15 = .ref 44 := rfl
theorem wi0_16 {v : Int32} : mx_set (HH q S tl) 0 (.inr (0, va_up (OF S 0 0) 16 (.int v))) = HH q (stI S 0 16 v) tl := stI_ok (by decide) rfl rfl
theorem of0_17 : OF S 0 0 17 = .ref 45 := rfl
theorem of0_18 : OF S 0 0 18 = .ref 46 := rfl
theorem of0_19 : OF S 0 0 19 = .ref 47 := rfl
theorem of0_20 : OF S 0 0 20 = .ref 52 := rfl
theorem of0_21 : OF S 0 0 21 = .ref 53 := rfl
theorem of0_22 : OF S 0 0 22 = .ref 54 := rfl
theorem wi0_23 {v : Int32} : mx_set (HH q S tl) 0 (.inr (0, va_up (OF S 0 0) 23 (.int v))) = HH q (stI S 0 23 v) tl := stI_ok (by decide) rfl rfl
theorem of0_24 : OF S 0 0 24 = .ref 55 := rfl
theorem ob1 : mx_obj (HH q S tl) 1 = some (1, OF S 1 1) := ob_ok (by decide) rfl
theorem kd1 : mx_kd (HH q S tl) 1 = 1 := kd_ok (by decide) rfl
theorem wi1_0 {v : Int32} : mx_set (HH q S tl) 1 (.inr (1, va_up (OF S 1 1) 0 (.int v))) = HH q (stI S 1 0 v) tl := stI_ok (by decide) rfl rfl
theorem wi1_1 {v : Int32} : mx_set (HH q S tl) 1 (.inr (1, va_up (OF S 1 1) 1 (.int v))) = HH q (stI S 1 1 v) tl := stI_ok (by decide) rfl rfl
theorem wi1_2 {v : Int32} : mx_set (HH q S tl) 1 (.inr (1, va_up (OF S 1 1) 2 (.int v))) = HH q (stI S 1 2 v) tl := stI_ok (by decide) rfl rfl
theorem of1_3 : OF S 1 1 3 = .ref 2 := rfl
theorem of1_4 : OF S 1 1 4 = .ref 3 := rfl
theorem of1_5 : OF S 1 1 5 = .ref 4 := rfl
theorem of1_6 : OF S 1 1 6 = .ref 5 := rfl
theorem of1_7 : OF S 1 1 7 = .ref 6 := rfl
theorem of1_8 : OF S 1 1 8 = .ref 7 := rfl
theorem of1_9 : OF S 1 1 9 = .ref 8 := rfl
theorem of1_10 : OF S 1 1 10 = .ref 9 := rfl
theorem ar2 : mx_arr (HH q S tl) 2 = some (0, 24, .inl (sA S 2)) := arA_ok (by decide) rfl (by decide) (by decide)
theorem wa2 {f : Nat → Int32} : mx_set (HH q S tl) 2 (.inl (0, 24, .inl f)) = HH q (stA S 2 f) tl := stA_ok (by decide) rfl (by decide) (by decide)
theorem ar3 : mx_arr (HH q S tl) 3 = some (0, 24, .inl (sA S 3)) := arA_ok (by decide) rfl (by decide) (by decide)
theorem wa3 {f : Nat → Int32} : mx_set (HH q S tl) 3 (.inl (0, 24, .inl f)) = HH q (stA S 3 f) tl := stA_ok (by decide) rfl (by decide) (by decide)
theorem ar4 : mx_arr (HH q S tl) 4 = some (0, 5, .inl (sA S 4)) := arA_ok (by decide) rfl (by decide) (by decide)
theorem wa4 {f : Nat → Int32} : mx_set (HH q S tl) 4 (.inl (0, 5, .inl f)) = HH q (stA S 4 f) tl := stA_ok (by decide) rfl (by decide) (by decide)
theorem ar5 : mx_arr (HH q S tl) 5 = some (0, 10, .inl (sA S 5)) := arA_ok (by decide) rfl (by decide) (by decide)
theorem wa5 {f : Nat → Int32} : mx_set (HH q S tl) 5 (.inl (0, 10, .inl f)) = HH q (stA S 5 f) tl := stA_ok (by decide) rfl (by decide) (by decide)
theorem ar6 : mx_arr (HH q S tl) 6 = some (0, 10, .inl (sA S 6)) := arA_ok (by decide) rfl (by decide) (by decide)
theorem wa6 {f : Nat → Int32} : mx_set (HH q S tl) 6 (.inl (0, 10, .inl f)) = HH q (stA S 6 f) tl := stA_ok (by decide) rfl (by decide) (by decide)
theorem ar7 : mx_arr (HH q S tl) 7 = some (0, 8, .inl (sA S 7)) := arA_ok (by decide) rfl (by decide) (by decide)
theorem wa7 {f : Nat → Int32} : mx_set (HH q S tl) 7 (.inl (0, 8, .inl f)) = HH q (stA S 7 f) tl := stA_ok (by decide) rfl (by decide) (by decide)
theorem ar8 : mx_arr (HH q S tl) 8 = some (5, 8, .inr (.inr (sQ S 8))) := arQ_ok (by decide) rfl (by decide)
theorem wa8 {f : Nat → Option Nat} : mx_set (HH q S tl) 8 (.inl (5, 8, .inr (.inr f))) = HH q (stQ S 8 f) tl := stQ_ok (by decide) rfl (by decide)
theorem ob9 : mx_obj (HH q S tl) 9 = some (2, OF S 2 9) := ob_ok (by decide) rfl
theorem kd9 : mx_kd (HH q S tl) 9 = 2 := kd_ok (by decide) rfl
theorem wi9_0 {v : Int32} : mx_set (HH q S tl) 9 (.inr (2, va_up (OF S 2 9) 0 (.int v))) = HH q (stI S 9 0 v) tl := stI_ok (by decide) rfl rfl
theorem wi9_1 {v : Int32} : mx_set (HH q S tl) 9 (.inr (2, va_up (OF S 2 9) 1 (.int v))) = HH q (stI S 9 1 v) tl := stI_ok (by decide) rfl rfl
theorem wi9_2 {v : Int32} : mx_set (HH q S tl) 9 (.inr (2, va_up (OF S 2 9) 2 (.int v))) = HH q (stI S 9 2 v) tl := stI_ok (by decide) rfl rfl
theorem wi9_3 {v : Int32} : mx_set (HH q S tl) 9 (.inr (2, va_up (OF S 2 9) 3 (.int v))) = HH q (stI S 9 3 v) tl := stI_ok (by decide) rfl rfl
theorem wi9_4 {v : Int32} : mx_set (HH q S tl) 9 (.inr (2, va_up (OF S 2 9) 4 (.int v))) = HH q (stI S 9 4 v) tl := stI_ok (by decide) rfl rfl
theorem wi9_5 {v : Int32} : mx_set (HH q S tl) 9 (.inr (2, va_up (OF S 2 9) 5 (.int v))) = HH q (stI S 9 5 v) tl := stI_ok (by decide) rfl rfl
theorem wi9_6 {v : Int32} : mx_set (HH q S tl) 9 (.inr (2, va_up (OF S 2 9) 6 (.int v))) = HH q (stI S 9 6 v) tl := stI_ok (by decide) rfl rfl
theorem ob10 : mx_obj (HH q S tl) 10 = some (1, OF S 1 10) := ob_ok (by decide) rfl
theorem kd10 : mx_kd (HH q S tl) 10 = 1 := kd_ok (by decide) rfl
theorem wi10_0 {v : Int32} : mx_set (HH q S tl) 10 (.inr (1, va_up (OF S 1 10) 0 (.int v))) = HH q (stI S 10 0 v) tl := stI_ok (by decide) rfl rfl
theorem wi10_1 {v : Int32} : mx_set (HH q S tl) 10 (.inr (1, va_up (OF S 1 10) 1 (.int v))) = HH q (stI S 10 1 v) tl := stI_ok (by decide) rfl rfl
theorem wi10_2 {v : Int32} : mx_set (HH q S tl) 10 (.inr (1, va_up (OF S 1 10) 2 (.int v))) = HH q (stI S 10 2 v) tl := stI_ok (by decide) rfl rfl
theorem of10_3 : OF S 1 10 3 = .ref 11 := rfl
theorem of10_4 : OF S 1 10 4 = .ref 12 := rfl
theorem of10_5 : OF S 1 10 5 = .ref 13 := rfl
theorem of10_6 : OF S 1 10 6 = .ref 14 := rfl
theorem of10_7 : OF S 1 10 7 = .ref 15 := rfl
theorem of10_8 : OF S 1 10 8 = .ref 16 := rfl
theorem of10_9 : OF S 1 10 9 = .ref 17 := rfl
theorem of10_10 : OF S 1 10 10 = .ref 18 := rfl
theorem ar11 : mx_arr (HH q S tl) 11 = some (0, 24, .inl (sA S 11)) := arA_ok (by decide) rfl (by decide) (by decide)
theorem wa11 {f : Nat → Int32} : mx_set (HH q S tl) 11 (.inl (0, 24, .inl f)) = HH q (stA S 11 f) tl := stA_ok (by decide) rfl (by decide) (by decide)
theorem ar12 : mx_arr (HH q S tl) 12 = some (0, 24, .inl (sA S 12)) := arA_ok (by decide) rfl (by decide) (by decide)
theorem wa12 {f : Nat → Int32} : mx_set (HH q S tl) 12 (.inl (0, 24, .inl f)) = HH q (stA S 12 f) tl := stA_ok (by decide) rfl (by decide) (by decide)
theorem ar13 : mx_arr (HH q S tl) 13 = some (0, 5, .inl (sA S 13)) := arA_ok (by decide) rfl (by decide) (by decide)
theorem wa13 {f : Nat → Int32} : mx_set (HH q S tl) 13 (.inl (0, 5, .inl f)) = HH q (stA S 13 f) tl := stA_ok (by decide) rfl (by decide) (by decide)
theorem ar14 : mx_arr (HH q S tl) 14 = some (0, 10, .inl (sA S 14)) := arA_ok (by decide) rfl (by decide) (by decide)
theorem wa14 {f : Nat → Int32} : mx_set (HH q S tl) 14 (.inl (0, 10, .inl f)) = HH q (stA S 14 f) tl := stA_ok (by decide) rfl (by decide) (by decide)
theorem ar15 : mx_arr (HH q S tl) 15 = some (0, 10, .inl (sA S 15)) := arA_ok (by decide) rfl (by decide) (by decide)
theorem wa15 {f : Nat → Int32} : mx_set (HH q S tl) 15 (.inl (0, 10, .inl f)) = HH q (stA S 15 f) tl := stA_ok (by decide) rfl (by decide) (by decide)
theorem ar16 : mx_arr (HH q S tl) 16 = some (0, 8, .inl (sA S 16)) := arA_ok (by decide) rfl (by decide) (by decide)
theorem wa16 {f : Nat → Int32} : mx_set (HH q S tl) 16 (.inl (0, 8, .inl f)) = HH q (stA S 16 f) tl := stA_ok (by decide) rfl (by decide) (by decide)
theorem ar17 : mx_arr (HH q S tl) 17 = some (5, 8, .inr (.inr (sQ S 17))) := arQ_ok (by decide) rfl (by decide)
theorem wa17 {f : Nat → Option Nat} : mx_set (HH q S tl) 17 (.inl (5, 8, .inr (.inr f))) = HH q (stQ S 17 f) tl := stQ_ok (by decide) rfl (by decide)
theorem ob18 : mx_obj (HH q S tl) 18 = some (2, OF S 2 18) := ob_ok (by decide) rfl
theorem kd18 : mx_kd (HH q S tl) 18 = 2 := kd_ok (by decide) rfl
theorem wi18_0 {v : Int32} : mx_set (HH q S tl) 18 (.inr (2, va_up (OF S 2 18) 0 (.int v))) = HH q (stI S 18 0 v) tl := stI_ok (by decide) rfl rfl
theorem wi18_1 {v : Int32} : mx_set (HH q S tl) 18 (.inr (2, va_up (OF S 2 18) 1 (.int v))) = HH q (stI S 18 1 v) tl := stI_ok (by decide) rfl rfl
theorem wi18_2 {v : Int32} : mx_set (HH q S tl) 18 (.inr (2, va_up (OF S 2 18) 2 (.int v))) = HH q (stI S 18 2 v) tl := stI_ok (by decide) rfl rfl
theorem wi18_3 {v : Int32} : mx_set (HH q S tl) 18 (.inr (2, va_up (OF S 2 18) 3 (.int v))) = HH q (stI S 18 3 v) tl := stI_ok (by decide) rfl rfl
theorem wi18_4 {v : Int32} : mx_set (HH q S tl) 18 (.inr (2, va_up (OF S 2 18) 4 (.int v))) = HH q (stI S 18 4 v) tl := stI_ok (by decide) rfl rfl
theorem wi18_5 {v : Int32} : mx_set (HH q S tl) 18 (.inr (2, va_up (OF S 2 18) 5 (.int v))) = HH q (stI S 18 5 v) tl := stI_ok (by decide) rfl rfl
theorem wi18_6 {v : Int32} : mx_set (HH q S tl) 18 (.inr (2, va_up (OF S 2 18) 6 (.int v))) = HH q (stI S 18 6 v) tl := stI_ok (by decide) rfl rfl
theorem ob19 : mx_obj (HH q S tl) 19 = some (1, OF S 1 19) := ob_ok (by decide) rfl
theorem kd19 : mx_kd (HH q S tl) 19 = 1 := kd_ok (by decide) rfl
theorem wi19_0 {v : Int32} : mx_set (HH q S tl) 19 (.inr (1, va_up (OF S 1 19) 0 (.int v))) = HH q (stI S 19 0 v) tl := stI_ok (by decide) rfl rfl
theorem wi19_1 {v : Int32} : mx_set (HH q S tl) 19 (.inr (1, va_up (OF S 1 19) 1 (.int v))) = HH q (stI S 19 1 v) tl := stI_ok (by decide) rfl rfl
theorem wi19_2 {v : Int32} : mx_set (HH q S tl) 19 (.inr (1, va_up (OF S 1 19) 2 (.int v))) = HH q (stI S 19 2 v) tl := stI_ok (by decide) rfl rfl
theorem of19_3 : OF S 1 19 3 = .ref 20 := rfl
theorem of19_4 : OF S 1 19 4 = .ref 21 := rfl
theorem of19_5 : OF S 1 19 5 = .ref 22 := rfl
theorem of19_6 : OF S 1 19 6 = .ref 23 := rfl
theorem of19_7 : OF S 1 19 7 = .ref 24 := rfl
theorem of19_8 : OF S 1 19 8 = .ref 25 := rfl
theorem of19_9 : OF S 1 19 9 = .ref 26 := rfl
theorem of19_10 : OF S 1 19 10 = .ref 27 := rfl
theorem ar20 : mx_arr (HH q S tl) 20 = some (0, 24, .inl (sA S 20)) := arA_ok (by decide) rfl (by decide) (by decide)
theorem wa20 {f : Nat → Int32} : mx_set (HH q S tl) 20 (.inl (0, 24, .inl f)) = HH q (stA S 20 f) tl := stA_ok (by decide) rfl (by decide) (by decide)
theorem ar21 : mx_arr (HH q S tl) 21 = some (0, 24, .inl (sA S 21)) := arA_ok (by decide) rfl (by decide) (by decide)
theorem wa21 {f : Nat → Int32} : mx_set (HH q S tl) 21 (.inl (0, 24, .inl f)) = HH q (stA S 21 f) tl := stA_ok (by decide) rfl (by decide) (by decide)
theorem ar22 : mx_arr (HH q S tl) 22 = some (0, 5, .inl (sA S 22)) := arA_ok (by decide) rfl (by decide) (by decide)
theorem wa22 {f : Nat → Int32} : mx_set (HH q S tl) 22 (.inl (0, 5, .inl f)) = HH q (stA S 22 f) tl := stA_ok (by decide) rfl (by decide) (by decide)
theorem ar23 : mx_arr (HH q S tl) 23 = some (0, 10, .inl (sA S 23)) := arA_ok (by decide) rfl (by decide) (by decide)
theorem wa23 {f : Nat → Int32} : mx_set (HH q S tl) 23 (.inl (0, 10, .inl f)) = HH q (stA S 23 f) tl := stA_ok (by decide) rfl (by decide) (by decide)
theorem ar24 : mx_arr (HH q S tl) 24 = some (0, 10, .inl (sA S 24)) := arA_ok (by decide) rfl (by decide) (by decide)
theorem wa24 {f : Nat → Int32} : mx_set (HH q S tl) 24 (.inl (0, 10, .inl f)) = HH q (stA S 24 f) tl := stA_ok (by decide) rfl (by decide) (by decide)
theorem ar25 : mx_arr (HH q S tl) 25 = some (0, 8, .inl (sA S 25)) := arA_ok (by decide) rfl (by decide) (by decide)
theorem wa25 {f : Nat → Int32} : mx_set (HH q S tl) 25 (.inl (0, 8, .inl f)) = HH q (stA S 25 f) tl := stA_ok (by decide) rfl (by decide) (by decide)
theorem ar26 : mx_arr (HH q S tl) 26 = some (5, 8, .inr (.inr (sQ S 26))) := arQ_ok (by decide) rfl (by decide)
theorem wa26 {f : Nat → Option Nat} : mx_set (HH q S tl) 26 (.inl (5, 8, .inr (.inr f))) = HH q (stQ S 26 f) tl := stQ_ok (by decide) rfl (by decide)
theorem ob27 : mx_obj (HH q S tl) 27 = some (2, OF S 2 27) := ob_ok (by decide) rfl
theorem kd27 : mx_kd (HH q S tl) 27 = 2 := kd_ok (by decide) rfl
theorem wi27_0 {v : Int32} : mx_set (HH q S tl) 27 (.inr (2, va_up (OF S 2 27) 0 (.int v))) = HH q (stI S 27 0 v) tl := stI_ok (by decide) rfl rfl
theorem wi27_1 {v : Int32} : mx_set (HH q S tl) 27 (.inr (2, va_up (OF S 2 27) 1 (.int v))) = HH q (stI S 27 1 v) tl := stI_ok (by decide) rfl rfl
theorem wi27_2 {v : Int32} : mx_set (HH q S tl) 27 (.inr (2, va_up (OF S 2 27) 2 (.int v))) = HH q (stI S 27 2 v) tl := stI_ok (by decide) rfl rfl
theorem wi27_3 {v : Int32} : mx_set (HH q S tl) 27 (.inr (2, va_up (OF S 2 27) 3 (.int v))) = HH q (stI S 27 3 v) tl := stI_ok (by decide) rfl rfl
theorem wi27_4 {v : Int32} : mx_set (HH q S tl) 27 (.inr (2, va_up (OF S 2 27) 4 (.int v))) = HH q (stI S 27 4 v) tl := stI_ok (by decide) rfl rfl
theorem wi27_5 {v : Int32} : mx_set (HH q S tl) 27 (.inr (2, va_up (OF S 2 27) 5 (.int v))) = HH q (stI S 27 5 v) tl := stI_ok (by decide) rfl rfl
theorem wi27_6 {v : Int32} : mx_set (HH q S tl) 27 (.inr (2, va_up (OF S 2 27) 6 (.int v))) = HH q (stI S 27 6 v) tl := stI_ok (by decide) rfl rfl
theorem ob28 : mx_obj (HH q S tl) 28 = some (2, OF S 2 28) := ob_ok (by decide) rfl
theorem kd28 : mx_kd (HH q S tl) 28 = 2 := kd_ok (by decide) rfl
theorem wi28_0 {v : Int32} : mx_set (HH q S tl) 28 (.inr (2, va_up (OF S 2 28) 0 (.int v))) = HH q (stI S 28 0 v) tl := stI_ok (by decide) rfl rfl
theorem wi28_1 {v : Int32} : mx_set (HH q S tl) 28 (.inr (2, va_up (OF S 2 28) 1 (.int v))) = HH q (stI S 28 1 v) tl := stI_ok (by decide) rfl rfl
theorem wi28_2 {v : Int32} : mx_set (HH q S tl) 28 (.inr (2, va_up (OF S 2 28) 2 (.int v))) = HH q (stI S 28 2 v) tl := stI_ok (by decide) rfl rfl
theorem wi28_3 {v : Int32} : mx_set (HH q S tl) 28 (.inr (2, va_up (OF S 2 28) 3 (.int v))) = HH q (stI S 28 3 v) tl := stI_ok (by decide) rfl rfl
theorem wi28_4 {v : Int32} : mx_set (HH q S tl) 28 (.inr (2, va_up (OF S 2 28) 4 (.int v))) = HH q (stI S 28 4 v) tl := stI_ok (by decide) rfl rfl
theorem wi28_5 {v : Int32} : mx_set (HH q S tl) 28 (.inr (2, va_up (OF S 2 28) 5 (.int v))) = HH q (stI S 28 5 v) tl := stI_ok (by decide) rfl rfl
theorem wi28_6 {v : Int32} : mx_set (HH q S tl) 28 (.inr (2, va_up (OF S 2 28) 6 (.int v))) = HH q (stI S 28 6 v) tl := stI_ok (by decide) rfl rfl
theorem ob29 : mx_obj (HH q S tl) 29 = some (2, OF S 2 29) := ob_ok (by decide) rfl
theorem kd29 : mx_kd (HH q S tl) 29 = 2 := kd_ok (by decide) rfl
theorem wi29_0 {v : Int32} : mx_set (HH q S tl) 29 (.inr (2, va_up (OF S 2 29) 0 (.int v))) = HH q (stI S 29 0 v) tl := stI_ok (by decide) rfl rfl
theorem wi29_1 {v : Int32} : mx_set (HH q S tl) 29 (.inr (2, va_up (OF S 2 29) 1 (.int v))) = HH q (stI S 29 1 v) tl := stI_ok (by decide) rfl rfl
theorem wi29_2 {v : Int32} : mx_set (HH q S tl) 29 (.inr (2, va_up (OF S 2 29) 2 (.int v))) = HH q (stI S 29 2 v) tl := stI_ok (by decide) rfl rfl
theorem wi29_3 {v : Int32} : mx_set (HH q S tl) 29 (.inr (2, va_up (OF S 2 29) 3 (.int v))) = HH q (stI S 29 3 v) tl := stI_ok (by decide) rfl rfl
theorem wi29_4 {v : Int32} : mx_set (HH q S tl) 29 (.inr (2, va_up (OF S 2 29) 4 (.int v))) = HH q (stI S 29 4 v) tl := stI_ok (by decide) rfl rfl
theorem wi29_5 {v : Int32} : mx_set (HH q S tl) 29 (.inr (2, va_up (OF S 2 29) 5 (.int v))) = HH q (stI S 29 5 v) tl := stI_ok (by decide) rfl rfl
theorem wi29_6 {v : Int32} : mx_set (HH q S tl) 29 (.inr (2, va_up (OF S 2 29) 6 (.int v))) = HH q (stI S 29 6 v) tl := stI_ok (by decide) rfl rfl
theorem ar30 : mx_arr (HH q S tl) 30 = some (6, 6, .inr (.inr (sQ S 30))) := arQ_ok (by decide) rfl (by decide)
theorem wa30 {f : Nat → Option Nat} : mx_set (HH q S tl) 30 (.inl (6, 6, .inr (.inr f))) = HH q (stQ S 30 f) tl := stQ_ok (by decide) rfl (by decide)
theorem ob31 : mx_obj (HH q S tl) 31 = some (4, OF S 4 31) := ob_ok (by decide) rfl
theorem kd31 : mx_kd (HH q S tl) 31 = 4 := kd_ok (by decide) rfl
theorem of31_0 : OF S 4 31 0 = .ref 0 := rfl
theorem of31_1 : OF S 4 31 1 = .ref 0 := rfl
theorem ob32 : mx_obj (HH q S tl) 32 = some (5, OF S 5 32) := ob_ok (by decide) rfl
theorem kd32 : mx_kd (HH q S tl) 32 = 5 := kd_ok (by decide) rfl
theorem of32_0 : OF S 5 32 0 = .ref 0 := rfl
theorem of32_1 : OF S 5 32 1 = .ref 0 := rfl
theorem of32_2 : OF S 5 32 2 = .ref 0 := rfl
theorem ob33 : mx_obj (HH q S tl) 33 = some (6, OF S 6 33) := ob_ok (by decide) rfl
theorem kd33 : mx_kd (HH q S tl) 33 = 6 := kd_ok (by decide) rfl
theorem of33_0 : OF S 6 33 0 = .ref 0 := rfl
theorem of33_1 : OF S 6 33 1 = .ref 0 := rfl
theorem of33_2 : OF S 6 33 2 = .ref 0 := rfl
theorem ob34 : mx_obj (HH q S tl) 34 = some (7, OF S 7 34) := ob_ok (by decide) rfl
theorem kd34 : mx_kd (HH q S tl) 34 = 7 := kd_ok (by decide) rfl
theorem of34_0 : OF S 7 34 0 = .ref 0 := rfl
theorem of34_1 : OF S 7 34 1 = .ref 0 := rfl
theorem of34_2 : OF S 7 34 2 = .ref 0 := rfl
theorem of34_3 : OF S 7 34 3 = .ref 0 := rfl
theorem ob35 : mx_obj (HH q S tl) 35 = some (8, OF S 8 35) := ob_ok (by decide) rfl
theorem kd35 : mx_kd (HH q S tl) 35 = 8 := kd_ok (by decide) rfl
theorem of35_0 : OF S 8 35 0 = .ref 0 := rfl
theorem of35_1 : OF S 8 35 1 = .ref 0 := rfl
theorem of35_2 : OF S 8 35 2 = .ref 0 := rfl
theorem of35_3 : OF S 8 35 3 = .ref 0 := rfl
theorem ob36 : mx_obj (HH q S tl) 36 = some (9, OF S 9 36) := ob_ok (by decide) rfl
theorem kd36 : mx_kd (HH q S tl) 36 = 9 := kd_ok (by decide) rfl
theorem of36_0 : OF S 9 36 0 = .ref 0 := rfl
theorem of36_1 : OF S 9 36 1 = .ref 0 := rfl
theorem of36_2 : OF S 9 36 2 = .ref 0 := rfl
theorem ar37 : mx_arr (HH q S tl) 37 = some (1, 200, .inl (sA S 37)) := arA_ok (by decide) rfl (by decide) (by decide)
theorem wa37 {f : Nat → Int32} : mx_set (HH q S tl) 37 (.inl (1, 200, .inl f)) = HH q (stA S 37 f) tl := stA_ok (by decide) rfl (by decide) (by decide)
theorem ob38 : mx_obj (HH q S tl) 38 = some (10, OF S 10 38) := ob_ok (by decide) rfl
theorem kd38 : mx_kd (HH q S tl) 38 = 10 := kd_ok (by decide) rfl
theorem of38_0 : OF S 10 38 0 = .ref 39 := rfl
theorem of38_1 : OF S 10 38 1 = .ref 40 := rfl
theorem wi38_2 {v : Int32} : mx_set (HH q S tl) 38 (.inr (10, va_up (OF S 10 38) 2 (.int v))) = HH q (stI S 38 2 v) tl := stI_ok (by decide) rfl rfl
theorem of38_3 : OF S 10 38 3 = .ref 41 := rfl
theorem of38_4 : OF S 10 38 4 = .ref 19 := rfl
theorem wr38_5 {v : Value} : mx_set (HH q S tl) 38 (.inr (10, va_up (OF S 10 38) 5 v)) = HH q (stR S 38 5 v) tl := stR_ok (by decide) rfl rfl
theorem wi38_6 {v : Int32} : mx_set (HH q S tl) 38 (.inr (10, va_up (OF S 10 38) 6 (.int v))) = HH q (stI S 38 6 v) tl := stI_ok (by decide) rfl rfl
theorem wi38_7 {v : Int32} : mx_set (HH q S tl) 38 (.inr (10, va_up (OF S 10 38) 7 (.int v))) = HH q (stI S 38 7 v) tl := stI_ok (by decide) rfl rfl
theorem wi38_8 {v : Int32} : mx_set (HH q S tl) 38 (.inr (10, va_up (OF S 10 38) 8 (.int v))) = HH q (stI S 38 8 v) tl := stI_ok (by decide) rfl rfl
theorem ar39 : mx_arr (HH q S tl) 39 = some (7, 6, .inr (.inr (sQ S 39))) := arQ_ok (by decide) rfl (by decide)
theorem wa39 {f : Nat → Option Nat} : mx_set (HH q S tl) 39 (.inl (7, 6, .inr (.inr f))) = HH q (stQ S 39 f) tl := stQ_ok (by decide) rfl (by decide)
theorem ar40 : mx_arr (HH q S tl) 40 = some (7, 4, .inr (.inr (sQ S 40))) := arQ_ok (by decide) rfl (by decide)
theorem wa40 {f : Nat → Option Nat} : mx_set (HH q S tl) 40 (.inl (7, 4, .inr (.inr f))) = HH q (stQ S 40 f) tl := stQ_ok (by decide) rfl (by decide)
theorem ob41 : mx_obj (HH q S tl) 41 = some (11, OF S 11 41) := ob_ok (by decide) rfl
theorem kd41 : mx_kd (HH q S tl) 41 = 11 := kd_ok (by decide) rfl
theorem wr41_0 {v : Value} : mx_set (HH q S tl) 41 (.inr (11, va_up (OF S 11 41) 0 v)) = HH q (stR S 41 0 v) tl := stR_ok (by decide) rfl rfl
theorem wr41_1 {v : Value} : mx_set (HH q S tl) 41 (.inr (11, va_up (OF S 11 41) 1 v)) = HH q (stR S 41 1 v) tl := stR_ok (by decide) rfl rfl
theorem wr41_2 {v : Value} : mx_set (HH q S tl) 41 (.inr (11, va_up (OF S 11 41) 2 v)) = HH q (stR S 41 2 v) tl := stR_ok (by decide) rfl rfl
theorem wr41_3 {v : Value} : mx_set (HH q S tl) 41 (.inr (11, va_up (OF S 11 41) 3 v)) = HH q (stR S 41 3 v) tl := stR_ok (by decide) rfl rfl
theorem wr41_4 {v : Value} : mx_set (HH q S tl) 41 (.inr (11, va_up (OF S 11 41) 4 v)) = HH q (stR S 41 4 v) tl := stR_ok (by decide) rfl rfl
theorem wi41_5 {v : Int32} : mx_set (HH q S tl) 41 (.inr (11, va_up (OF S 11 41) 5 (.int v))) = HH q (stI S 41 5 v) tl := stI_ok (by decide) rfl rfl
theorem wi41_6 {v : Int32} : mx_set (HH q S tl) 41 (.inr (11, va_up (OF S 11 41) 6 (.int v))) = HH q (stI S 41 6 v) tl := stI_ok (by decide) rfl rfl
theorem ar42 : mx_arr (HH q S tl) 42 = some (0, 6, .inl (sA S 42)) := arA_ok (by decide) rfl (by decide) (by decide)
theorem wa42 {f : Nat → Int32} : mx_set (HH q S tl) 42 (.inl (0, 6, .inl f)) = HH q (stA S 42 f) tl := stA_ok (by decide) rfl (by decide) (by decide)
theorem ob43 : mx_obj (HH q S tl) 43 = some (13, OF S 13 43) := ob_ok (by decide) rfl
theorem kd43 : mx_kd (HH q S tl) 43 = 13 := kd_ok (by decide) rfl
theorem wi43_0 {v : Int32} : mx_set (HH q S tl) 43 (.inr (13, va_up (OF S 13 43) 0 (.int v))) = HH q (stI S 43 0 v) tl := stI_ok (by decide) rfl rfl
theorem of43_1 : OF S 13 43 1 = .ref 0 := rfl
theorem of43_2 : OF S 13 43 2 = .ref 0 := rfl
theorem ar44 : mx_arr (HH q S tl) 44 = some (8, 24, .inr (.inr (sQ S 44))) := arQ_ok (by decide) rfl (by decide)
theorem wa44 {f : Nat → Option Nat} : mx_set (HH q S tl) 44 (.inl (8, 24, .inr (.inr f))) = HH q (stQ S 44 f) tl := stQ_ok (by decide) rfl (by decide)
theorem ob45 : mx_obj (HH q S tl) 45 = some (14, OF S 14 45) := ob_ok (by decide) rfl
theorem kd45 : mx_kd (HH q S tl) 45 = 14 := kd_ok (by decide) rfl
theorem wi45_0 {v : Int32} : mx_set (HH q S tl) 45 (.inr (14, va_up (OF S 14 45) 0 (.int v))) = HH q (stI S 45 0 v) tl := stI_ok (by decide) rfl rfl
theorem of45_1 : OF S 14 45 1 = .ref 0 := rfl
theorem of45_2 : OF S 14 45 2 = .ref 0 := rfl
theorem ob46 : mx_obj (HH q S tl) 46 = some (15, OF S 15 46) := ob_ok (by decide) rfl
theorem kd46 : mx_kd (HH q S tl) 46 = 15 := kd_ok (by decide) rfl
theorem wi46_0 {v : Int32} : mx_set (HH q S tl) 46 (.inr (15, va_up (OF S 15 46) 0 (.int v))) = HH q (stI S 46 0 v) tl := stI_ok (by decide) rfl rfl
theorem of46_1 : OF S 15 46 1 = .ref 0 := rfl
theorem wi46_2 {v : Int32} : mx_set (HH q S tl) 46 (.inr (15, va_up (OF S 15 46) 2 (.int v))) = HH q (stI S 46 2 v) tl := stI_ok (by decide) rfl rfl
theorem of46_3 : OF S 15 46 3 = .ref 0 := rfl
theorem ar47 : mx_arr (HH q S tl) 47 = some (9, 4, .inr (.inr (sQ S 47))) := arQ_ok (by decide) rfl (by decide)
theorem wa47 {f : Nat → Option Nat} : mx_set (HH q S tl) 47 (.inl (9, 4, .inr (.inr f))) = HH q (stQ S 47 f) tl := stQ_ok (by decide) rfl (by decide)
theorem ob48 : mx_obj (HH q S tl) 48 = some (16, OF S 16 48) := ob_ok (by decide) rfl
theorem kd48 : mx_kd (HH q S tl) 48 = 16 := kd_ok (by decide) rfl
theorem wr48_0 {v : Value} : mx_set (HH q S tl) 48 (.inr (16, va_up (OF S 16 48) 0 v)) = HH q (stR S 48 0 v) tl := stR_ok (by decide) rfl rfl
theorem wr48_1 {v : Value} : mx_set (HH q S tl) 48 (.inr (16, va_up (OF S 16 48) 1 v)) = HH q (stR S 48 1 v) tl := stR_ok (by decide) rfl rfl
theorem wr48_2 {v : Value} : mx_set (HH q S tl) 48 (.inr (16, va_up (OF S 16 48) 2 v)) = HH q (stR S 48 2 v) tl := stR_ok (by decide) rfl rfl
theorem wr48_3 {v : Value} : mx_set (HH q S tl) 48 (.inr (16, va_up (OF S 16 48) 3 v)) = HH q (stR S 48 3 v) tl := stR_ok (by decide) rfl rfl
theorem wi48_4 {v : Int32} : mx_set (HH q S tl) 48 (.inr (16, va_up (OF S 16 48) 4 (.int v))) = HH q (stI S 48 4 v) tl := stI_ok (by decide) rfl rfl
theorem ob49 : mx_obj (HH q S tl) 49 = some (16, OF S 16 49) := ob_ok (by decide) rfl
theorem kd49 : mx_kd (HH q S tl) 49 = 16 := kd_ok (by decide) rfl
theorem wr49_0 {v : Value} : mx_set (HH q S tl) 49 (.inr (16, va_up (OF S 16 49) 0 v)) = HH q (stR S 49 0 v) tl := stR_ok (by decide) rfl rfl
theorem wr49_1 {v : Value} : mx_set (HH q S tl) 49 (.inr (16, va_up (OF S 16 49) 1 v)) = HH q (stR S 49 1 v) tl := stR_ok (by decide) rfl rfl
theorem wr49_2 {v : Value} : mx_set (HH q S tl) 49 (.inr (16, va_up (OF S 16 49) 2 v)) = HH q (stR S 49 2 v) tl := stR_ok (by decide) rfl rfl
theorem wr49_3 {v : Value} : mx_set (HH q S tl) 49 (.inr (16, va_up (OF S 16 49) 3 v)) = HH q (stR S 49 3 v) tl := stR_ok (by decide) rfl rfl
theorem wi49_4 {v : Int32} : mx_set (HH q S tl) 49 (.inr (16, va_up (OF S 16 49) 4 (.int v))) = HH q (stI S 49 4 v) tl := stI_ok (by decide) rfl rfl
theorem ob50 : mx_obj (HH q S tl) 50 = some (16, OF S 16 50) := ob_ok (by decide) rfl
theorem kd50 : mx_kd (HH q S tl) 50 = 16 := kd_ok (by decide) rfl
theorem wr50_0 {v : Value} : mx_set (HH q S tl) 50 (.inr (16, va_up (OF S 16 50) 0 v)) = HH q (stR S 50 0 v) tl := stR_ok (by decide) rfl rfl
theorem wr50_1 {v : Value} : mx_set (HH q S tl) 50 (.inr (16, va_up (OF S 16 50) 1 v)) = HH q (stR S 50 1 v) tl := stR_ok (by decide) rfl rfl
theorem wr50_2 {v : Value} : mx_set (HH q S tl) 50 (.inr (16, va_up (OF S 16 50) 2 v)) = HH q (stR S 50 2 v) tl := stR_ok (by decide) rfl rfl
theorem wr50_3 {v : Value} : mx_set (HH q S tl) 50 (.inr (16, va_up (OF S 16 50) 3 v)) = HH q (stR S 50 3 v) tl := stR_ok (by decide) rfl rfl
theorem wi50_4 {v : Int32} : mx_set (HH q S tl) 50 (.inr (16, va_up (OF S 16 50) 4 (.int v))) = HH q (stI S 50 4 v) tl := stI_ok (by decide) rfl rfl
theorem ob51 : mx_obj (HH q S tl) 51 = some (16, OF S 16 51) := ob_ok (by decide) rfl
theorem kd51 : mx_kd (HH q S tl) 51 = 16 := kd_ok (by decide) rfl
theorem wr51_0 {v : Value} : mx_set (HH q S tl) 51 (.inr (16, va_up (OF S 16 51) 0 v)) = HH q (stR S 51 0 v) tl := stR_ok (by decide) rfl rfl
theorem wr51_1 {v : Value} : mx_set (HH q S tl) 51 (.inr (16, va_up (OF S 16 51) 1 v)) = HH q (stR S 51 1 v) tl := stR_ok (by decide) rfl rfl
theorem wr51_2 {v : Value} : mx_set (HH q S tl) 51 (.inr (16, va_up (OF S 16 51) 2 v)) = HH q (stR S 51 2 v) tl := stR_ok (by decide) rfl rfl
theorem wr51_3 {v : Value} : mx_set (HH q S tl) 51 (.inr (16, va_up (OF S 16 51) 3 v)) = HH q (stR S 51 3 v) tl := stR_ok (by decide) rfl rfl
theorem wi51_4 {v : Int32} : mx_set (HH q S tl) 51 (.inr (16, va_up (OF S 16 51) 4 (.int v))) = HH q (stI S 51 4 v) tl := stI_ok (by decide) rfl rfl
theorem ob52 : mx_obj (HH q S tl) 52 = some (17, OF S 17 52) := ob_ok (by decide) rfl
theorem kd52 : mx_kd (HH q S tl) 52 = 17 := kd_ok (by decide) rfl
theorem wr52_0 {v : Value} : mx_set (HH q S tl) 52 (.inr (17, va_up (OF S 17 52) 0 v)) = HH q (stR S 52 0 v) tl := stR_ok (by decide) rfl rfl
theorem wr52_1 {v : Value} : mx_set (HH q S tl) 52 (.inr (17, va_up (OF S 17 52) 1 v)) = HH q (stR S 52 1 v) tl := stR_ok (by decide) rfl rfl
theorem wr52_2 {v : Value} : mx_set (HH q S tl) 52 (.inr (17, va_up (OF S 17 52) 2 v)) = HH q (stR S 52 2 v) tl := stR_ok (by decide) rfl rfl
theorem wr52_3 {v : Value} : mx_set (HH q S tl) 52 (.inr (17, va_up (OF S 17 52) 3 v)) = HH q (stR S 52 3 v) tl := stR_ok (by decide) rfl rfl
theorem wr52_4 {v : Value} : mx_set (HH q S tl) 52 (.inr (17, va_up (OF S 17 52) 4 v)) = HH q (stR S 52 4 v) tl := stR_ok (by decide) rfl rfl
theorem wi52_5 {v : Int32} : mx_set (HH q S tl) 52 (.inr (17, va_up (OF S 17 52) 5 (.int v))) = HH q (stI S 52 5 v) tl := stI_ok (by decide) rfl rfl
theorem ob53 : mx_obj (HH q S tl) 53 = some (18, OF S 18 53) := ob_ok (by decide) rfl
theorem kd53 : mx_kd (HH q S tl) 53 = 18 := kd_ok (by decide) rfl
theorem wr53_0 {v : Value} : mx_set (HH q S tl) 53 (.inr (18, va_up (OF S 18 53) 0 v)) = HH q (stR S 53 0 v) tl := stR_ok (by decide) rfl rfl
theorem wr53_1 {v : Value} : mx_set (HH q S tl) 53 (.inr (18, va_up (OF S 18 53) 1 v)) = HH q (stR S 53 1 v) tl := stR_ok (by decide) rfl rfl
theorem wr53_2 {v : Value} : mx_set (HH q S tl) 53 (.inr (18, va_up (OF S 18 53) 2 v)) = HH q (stR S 53 2 v) tl := stR_ok (by decide) rfl rfl
theorem wr53_3 {v : Value} : mx_set (HH q S tl) 53 (.inr (18, va_up (OF S 18 53) 3 v)) = HH q (stR S 53 3 v) tl := stR_ok (by decide) rfl rfl
theorem wr53_4 {v : Value} : mx_set (HH q S tl) 53 (.inr (18, va_up (OF S 18 53) 4 v)) = HH q (stR S 53 4 v) tl := stR_ok (by decide) rfl rfl
theorem wi53_5 {v : Int32} : mx_set (HH q S tl) 53 (.inr (18, va_up (OF S 18 53) 5 (.int v))) = HH q (stI S 53 5 v) tl := stI_ok (by decide) rfl rfl
theorem ar54 : mx_arr (HH q S tl) 54 = some (0, 30, .inl (sA S 54)) := arA_ok (by decide) rfl (by decide) (by decide)
theorem wa54 {f : Nat → Int32} : mx_set (HH q S tl) 54 (.inl (0, 30, .inl f)) = HH q (stA S 54 f) tl := stA_ok (by decide) rfl (by decide) (by decide)
theorem ar55 : mx_arr (HH q S tl) 55 = some (10, 4, .inr (.inr (sQ S 55))) := arQ_ok (by decide) rfl (by decide)
theorem wa55 {f : Nat → Option Nat} : mx_set (HH q S tl) 55 (.inl (10, 4, .inr (.inr f))) = HH q (stQ S 55 f) tl := stQ_ok (by decide) rfl (by decide)
theorem ob56 : mx_obj (HH q S tl) 56 = some (19, OF S 19 56) := ob_ok (by decide) rfl
theorem kd56 : mx_kd (HH q S tl) 56 = 19 := kd_ok (by decide) rfl
theorem wi56_0 {v : Int32} : mx_set (HH q S tl) 56 (.inr (19, va_up (OF S 19 56) 0 (.int v))) = HH q (stI S 56 0 v) tl := stI_ok (by decide) rfl rfl
theorem wi56_1 {v : Int32} : mx_set (HH q S tl) 56 (.inr (19, va_up (OF S 19 56) 1 (.int v))) = HH q (stI S 56 1 v) tl := stI_ok (by decide) rfl rfl
theorem wr56_2 {v : Value} : mx_set (HH q S tl) 56 (.inr (19, va_up (OF S 19 56) 2 v)) = HH q (stR S 56 2 v) tl := stR_ok (by decide) rfl rfl
theorem ob57 : mx_obj (HH q S tl) 57 = some (19, OF S 19 57) := ob_ok (by decide) rfl
theorem kd57 : mx_kd (HH q S tl) 57 = 19 := kd_ok (by decide) rfl
theorem wi57_0 {v : Int32} : mx_set (HH q S tl) 57 (.inr (19, va_up (OF S 19 57) 0 (.int v))) = HH q (stI S 57 0 v) tl := stI_ok (by decide) rfl rfl
theorem wi57_1 {v : Int32} : mx_set (HH q S tl) 57 (.inr (19, va_up (OF S 19 57) 1 (.int v))) = HH q (stI S 57 1 v) tl := stI_ok (by decide) rfl rfl
theorem wr57_2 {v : Value} : mx_set (HH q S tl) 57 (.inr (19, va_up (OF S 19 57) 2 v)) = HH q (stR S 57 2 v) tl := stR_ok (by decide) rfl rfl
theorem ob58 : mx_obj (HH q S tl) 58 = some (19, OF S 19 58) := ob_ok (by decide) rfl
theorem kd58 : mx_kd (HH q S tl) 58 = 19 := kd_ok (by decide) rfl
theorem wi58_0 {v : Int32} : mx_set (HH q S tl) 58 (.inr (19, va_up (OF S 19 58) 0 (.int v))) = HH q (stI S 58 0 v) tl := stI_ok (by decide) rfl rfl
theorem wi58_1 {v : Int32} : mx_set (HH q S tl) 58 (.inr (19, va_up (OF S 19 58) 1 (.int v))) = HH q (stI S 58 1 v) tl := stI_ok (by decide) rfl rfl
theorem wr58_2 {v : Value} : mx_set (HH q S tl) 58 (.inr (19, va_up (OF S 19 58) 2 v)) = HH q (stR S 58 2 v) tl := stR_ok (by decide) rfl rfl
theorem ob59 : mx_obj (HH q S tl) 59 = some (19, OF S 19 59) := ob_ok (by decide) rfl
theorem kd59 : mx_kd (HH q S tl) 59 = 19 := kd_ok (by decide) rfl
theorem wi59_0 {v : Int32} : mx_set (HH q S tl) 59 (.inr (19, va_up (OF S 19 59) 0 (.int v))) = HH q (stI S 59 0 v) tl := stI_ok (by decide) rfl rfl
theorem wi59_1 {v : Int32} : mx_set (HH q S tl) 59 (.inr (19, va_up (OF S 19 59) 1 (.int v))) = HH q (stI S 59 1 v) tl := stI_ok (by decide) rfl rfl
theorem wr59_2 {v : Value} : mx_set (HH q S tl) 59 (.inr (19, va_up (OF S 19 59) 2 v)) = HH q (stR S 59 2 v) tl := stR_ok (by decide) rfl rfl
theorem ob60 : mx_obj (HH q S tl) 60 = some (20, OF S 20 60) := ob_ok (by decide) rfl
theorem kd60 : mx_kd (HH q S tl) 60 = 20 := kd_ok (by decide) rfl
theorem of60_0 : OF S 20 60 0 = .ref 61 := rfl
theorem wi60_1 {v : Int32} : mx_set (HH q S tl) 60 (.inr (20, va_up (OF S 20 60) 1 (.int v))) = HH q (stI S 60 1 v) tl := stI_ok (by decide) rfl rfl
theorem of60_2 : OF S 20 60 2 = .ref 62 := rfl
theorem of60_3 : OF S 20 60 3 = .ref 63 := rfl
theorem of60_4 : OF S 20 60 4 = .ref 64 := rfl
theorem of60_5 : OF S 20 60 5 = .ref 65 := rfl
theorem of60_6 : OF S 20 60 6 = .ref 66 := rfl
theorem of60_7 : OF S 20 60 7 = .ref 67 := rfl
theorem of60_8 : OF S 20 60 8 = .ref 68 := rfl
theorem wi60_9 {v : Int32} : mx_set (HH q S tl) 60 (.inr (20, va_up (OF S 20 60) 9 (.int v))) = HH q (stI S 60 9 v) tl := stI_ok (by decide) rfl rfl
theorem of60_10 : OF S 20 60 10 = .ref 69 := rfl
theorem wi60_11 {v : Int32} : mx_set (HH q S tl) 60 (.inr (20, va_up (OF S 20 60) 11 (.int v))) = HH q (stI S 60 11 v) tl := stI_ok (by decide) rfl rfl
theorem of60_12 : OF S 20 60 12 = .ref 70 := rfl
theorem of60_13 : OF S 20 60 13 = .ref 71 := rfl
theorem wi60_14 {v : Int32} : mx_set (HH q S tl) 60 (.inr (20, va_up (OF S 20 60) 14 (.int v))) = HH q (stI S 60 14 v) tl := stI_ok (by decide) rfl rfl
theorem of60_15 : OF S 20 60 15 = .ref 72 := rfl
theorem wi60_16 {v : Int32} : mx_set (HH q S tl) 60 (.inr (20, va_up (OF S 20 60) 16 (.int v))) = HH q (stI S 60 16 v) tl := stI_ok (by decide) rfl rfl
theorem wi60_17 {v : Int32} : mx_set (HH q S tl) 60 (.inr (20, va_up (OF S 20 60) 17 (.int v))) = HH q (stI S 60 17 v) tl := stI_ok (by decide) rfl rfl
theorem wi60_18 {v : Int32} : mx_set (HH q S tl) 60 (.inr (20, va_up (OF S 20 60) 18 (.int v))) = HH q (stI S 60 18 v) tl := stI_ok (by decide) rfl rfl
theorem wi60_19 {v : Int32} : mx_set (HH q S tl) 60 (.inr (20, va_up (OF S 20 60) 19 (.int v))) = HH q (stI S 60 19 v) tl := stI_ok (by decide) rfl rfl
theorem wl60_20 {v : Int64} : mx_set (HH q S tl) 60 (.inr (20, va_up (OF S 20 60) 20 (.long v))) = HH q (stL S 60 20 v) tl := stL_ok (by decide) rfl rfl
theorem wi60_21 {v : Int32} : mx_set (HH q S tl) 60 (.inr (20, va_up (OF S 20 60) 21 (.int v))) = HH q (stI S 60 21 v) tl := stI_ok (by decide) rfl rfl
theorem wi60_22 {v : Int32} : mx_set (HH q S tl) 60 (.inr (20, va_up (OF S 20 60) 22 (.int v))) = HH q (stI S 60 22 v) tl := stI_ok (by decide) rfl rfl
theorem of60_23 : OF S 20 60 23 = .ref 73 := rfl
theorem of60_24 : OF S 20 60 24 = .ref 74 := rfl
theorem of60_25 : OF S 20 60 25 = .ref 75 := rfl
theorem wi60_26 {v : Int32} : mx_set (HH q S tl) 60 (.inr (20, va_up (OF S 20 60) 26 (.int v))) = HH q (stI S 60 26 v) tl := stI_ok (by decide) rfl rfl
theorem wi60_27 {v : Int32} : mx_set (HH q S tl) 60 (.inr (20, va_up (OF S 20 60) 27 (.int v))) = HH q (stI S 60 27 v) tl := stI_ok (by decide) rfl rfl
theorem wi60_28 {v : Int32} : mx_set (HH q S tl) 60 (.inr (20, va_up (OF S 20 60) 28 (.int v))) = HH q (stI S 60 28 v) tl := stI_ok (by decide) rfl rfl
theorem of60_29 : OF S 20 60 29 = .ref 76 := rfl
theorem of60_30 : OF S 20 60 30 = .ref 77 := rfl
theorem of60_31 : OF S 20 60 31 = .ref 78 := rfl
theorem wi60_32 {v : Int32} : mx_set (HH q S tl) 60 (.inr (20, va_up (OF S 20 60) 32 (.int v))) = HH q (stI S 60 32 v) tl := stI_ok (by decide) rfl rfl
theorem wi60_33 {v : Int32} : mx_set (HH q S tl) 60 (.inr (20, va_up (OF S 20 60) 33 (.int v))) = HH q (stI S 60 33 v) tl := stI_ok (by decide) rfl rfl
theorem wi60_34 {v : Int32} : mx_set (HH q S tl) 60 (.inr (20, va_up (OF S 20 60) 34 (.int v))) = HH q (stI S 60 34 v) tl := stI_ok (by decide) rfl rfl
theorem wi60_35 {v : Int32} : mx_set (HH q S tl) 60 (.inr (20, va_up (OF S 20 60) 35 (.int v))) = HH q (stI S 60 35 v) tl := stI_ok (by decide) rfl rfl
theorem of60_36 : OF S 20 60 36 = .ref 79 := rfl
theorem wi60_37 {v : Int32} : mx_set (HH q S tl) 60 (.inr (20, va_up (OF S 20 60) 37 (.int v))) = HH q (stI S 60 37 v) tl := stI_ok (by decide) rfl rfl
theorem of60_38 : OF S 20 60 38 = .ref 80 := rfl
theorem of60_39 : OF S 20 60 39 = .ref 81 := rfl
theorem of60_40 : OF S 20 60 40 = .ref 82 := rfl
theorem of60_41 : OF S 20 60 41 = .ref 83 := rfl
theorem of60_42 : OF S 20 60 42 = .ref 84 := rfl
theorem of60_43 : OF S 20 60 43 = .ref 85 := rfl
theorem wi60_44 {v : Int32} : mx_set (HH q S tl) 60 (.inr (20, va_up (OF S 20 60) 44 (.int v))) = HH q (stI S 60 44 v) tl := stI_ok (by decide) rfl rfl
theorem wi60_45 {v : Int32} : mx_set (HH q S tl) 60 (.inr (20, va_up (OF S 20 60) 45 (.int v))) = HH q (stI S 60 45 v) tl := stI_ok (by decide) rfl rfl
theorem wi60_46 {v : Int32} : mx_set (HH q S tl) 60 (.inr (20, va_up (OF S 20 60) 46 (.int v))) = HH q (stI S 60 46 v) tl := stI_ok (by decide) rfl rfl
theorem of60_47 : OF S 20 60 47 = .ref 86 := rfl
theorem wi60_48 {v : Int32} : mx_set (HH q S tl) 60 (.inr (20, va_up (OF S 20 60) 48 (.int v))) = HH q (stI S 60 48 v) tl := stI_ok (by decide) rfl rfl
theorem wi60_49 {v : Int32} : mx_set (HH q S tl) 60 (.inr (20, va_up (OF S 20 60) 49 (.int v))) = HH q (stI S 60 49 v) tl := stI_ok (by decide) rfl rfl
theorem wi60_50 {v : Int32} : mx_set (HH q S tl) 60 (.inr (20, va_up (OF S 20 60) 50 (.int v))) = HH q (stI S 60 50 v) tl := stI_ok (by decide) rfl rfl
theorem of60_51 : OF S 20 60 51 = .ref 87 := rfl
theorem wi60_52 {v : Int32} : mx_set (HH q S tl) 60 (.inr (20, va_up (OF S 20 60) 52 (.int v))) = HH q (stI S 60 52 v) tl := stI_ok (by decide) rfl rfl
theorem of60_53 : OF S 20 60 53 = .ref 88 := rfl
theorem ar61 : mx_arr (HH q S tl) 61 = some (0, 21, .inl (sA S 61)) := arA_ok (by decide) rfl (by decide) (by decide)
theorem wa61 {f : Nat → Int32} : mx_set (HH q S tl) 61 (.inl (0, 21, .inl f)) = HH q (stA S 61 f) tl := stA_ok (by decide) rfl (by decide) (by decide)
theorem ar62 : mx_arr (HH q S tl) 62 = some (0, 7, .inl (sA S 62)) := arA_ok (by decide) rfl (by decide) (by decide)
theorem wa62 {f : Nat → Int32} : mx_set (HH q S tl) 62 (.inl (0, 7, .inl f)) = HH q (stA S 62 f) tl := stA_ok (by decide) rfl (by decide) (by decide)
theorem ar63 : mx_arr (HH q S tl) 63 = some (0, 7, .inl (sA S 63)) := arA_ok (by decide) rfl (by decide) (by decide)
theorem wa63 {f : Nat → Int32} : mx_set (HH q S tl) 63 (.inl (0, 7, .inl f)) = HH q (stA S 63 f) tl := stA_ok (by decide) rfl (by decide) (by decide)
theorem ar64 : mx_arr (HH q S tl) 64 = some (0, 24, .inl (sA S 64)) := arA_ok (by decide) rfl (by decide) (by decide)
theorem wa64 {f : Nat → Int32} : mx_set (HH q S tl) 64 (.inl (0, 24, .inl f)) = HH q (stA S 64 f) tl := stA_ok (by decide) rfl (by decide) (by decide)
theorem ar65 : mx_arr (HH q S tl) 65 = some (0, 24, .inl (sA S 65)) := arA_ok (by decide) rfl (by decide) (by decide)
theorem wa65 {f : Nat → Int32} : mx_set (HH q S tl) 65 (.inl (0, 24, .inl f)) = HH q (stA S 65 f) tl := stA_ok (by decide) rfl (by decide) (by decide)
theorem ar66 : mx_arr (HH q S tl) 66 = some (0, 5, .inl (sA S 66)) := arA_ok (by decide) rfl (by decide) (by decide)
theorem wa66 {f : Nat → Int32} : mx_set (HH q S tl) 66 (.inl (0, 5, .inl f)) = HH q (stA S 66 f) tl := stA_ok (by decide) rfl (by decide) (by decide)
theorem ar67 : mx_arr (HH q S tl) 67 = some (0, 5, .inl (sA S 67)) := arA_ok (by decide) rfl (by decide) (by decide)
theorem wa67 {f : Nat → Int32} : mx_set (HH q S tl) 67 (.inl (0, 5, .inl f)) = HH q (stA S 67 f) tl := stA_ok (by decide) rfl (by decide) (by decide)
theorem ar68 : mx_arr (HH q S tl) 68 = some (0, 5, .inl (sA S 68)) := arA_ok (by decide) rfl (by decide) (by decide)
theorem wa68 {f : Nat → Int32} : mx_set (HH q S tl) 68 (.inl (0, 5, .inl f)) = HH q (stA S 68 f) tl := stA_ok (by decide) rfl (by decide) (by decide)
theorem ar69 : mx_arr (HH q S tl) 69 = some (0, 20, .inl (sA S 69)) := arA_ok (by decide) rfl (by decide) (by decide)
theorem wa69 {f : Nat → Int32} : mx_set (HH q S tl) 69 (.inl (0, 20, .inl f)) = HH q (stA S 69 f) tl := stA_ok (by decide) rfl (by decide) (by decide)
theorem ar70 : mx_arr (HH q S tl) 70 = some (0, 24, .inl (sA S 70)) := arA_ok (by decide) rfl (by decide) (by decide)
theorem wa70 {f : Nat → Int32} : mx_set (HH q S tl) 70 (.inl (0, 24, .inl f)) = HH q (stA S 70 f) tl := stA_ok (by decide) rfl (by decide) (by decide)
theorem ar71 : mx_arr (HH q S tl) 71 = some (0, 200, .inl (sA S 71)) := arA_ok (by decide) rfl (by decide) (by decide)
theorem wa71 {f : Nat → Int32} : mx_set (HH q S tl) 71 (.inl (0, 200, .inl f)) = HH q (stA S 71 f) tl := stA_ok (by decide) rfl (by decide) (by decide)
theorem ar72 : mx_arr (HH q S tl) 72 = some (0, 200, .inl (sA S 72)) := arA_ok (by decide) rfl (by decide) (by decide)
theorem wa72 {f : Nat → Int32} : mx_set (HH q S tl) 72 (.inl (0, 200, .inl f)) = HH q (stA S 72 f) tl := stA_ok (by decide) rfl (by decide) (by decide)
theorem ar73 : mx_arr (HH q S tl) 73 = some (0, 6, .inl (sA S 73)) := arA_ok (by decide) rfl (by decide) (by decide)
theorem wa73 {f : Nat → Int32} : mx_set (HH q S tl) 73 (.inl (0, 6, .inl f)) = HH q (stA S 73 f) tl := stA_ok (by decide) rfl (by decide) (by decide)
theorem ar74 : mx_arr (HH q S tl) 74 = some (0, 200, .inl (sA S 74)) := arA_ok (by decide) rfl (by decide) (by decide)
theorem wa74 {f : Nat → Int32} : mx_set (HH q S tl) 74 (.inl (0, 200, .inl f)) = HH q (stA S 74 f) tl := stA_ok (by decide) rfl (by decide) (by decide)
theorem ar75 : mx_arr (HH q S tl) 75 = some (0, 200, .inl (sA S 75)) := arA_ok (by decide) rfl (by decide) (by decide)
theorem wa75 {f : Nat → Int32} : mx_set (HH q S tl) 75 (.inl (0, 200, .inl f)) = HH q (stA S 75 f) tl := stA_ok (by decide) rfl (by decide) (by decide)
theorem ar76 : mx_arr (HH q S tl) 76 = some (4, 100, .inl (sA S 76)) := arA_ok (by decide) rfl (by decide) (by decide)
theorem wa76 {f : Nat → Int32} : mx_set (HH q S tl) 76 (.inl (4, 100, .inl f)) = HH q (stA S 76 f) tl := stA_ok (by decide) rfl (by decide) (by decide)
theorem ar77 : mx_arr (HH q S tl) 77 = some (0, 24, .inl (sA S 77)) := arA_ok (by decide) rfl (by decide) (by decide)
theorem wa77 {f : Nat → Int32} : mx_set (HH q S tl) 77 (.inl (0, 24, .inl f)) = HH q (stA S 77 f) tl := stA_ok (by decide) rfl (by decide) (by decide)
theorem ar78 : mx_arr (HH q S tl) 78 = some (0, 72, .inl (sA S 78)) := arA_ok (by decide) rfl (by decide) (by decide)
theorem wa78 {f : Nat → Int32} : mx_set (HH q S tl) 78 (.inl (0, 72, .inl f)) = HH q (stA S 78 f) tl := stA_ok (by decide) rfl (by decide) (by decide)
theorem ar79 : mx_arr (HH q S tl) 79 = some (0, 72, .inl (sA S 79)) := arA_ok (by decide) rfl (by decide) (by decide)
theorem wa79 {f : Nat → Int32} : mx_set (HH q S tl) 79 (.inl (0, 72, .inl f)) = HH q (stA S 79 f) tl := stA_ok (by decide) rfl (by decide) (by decide)
theorem ar80 : mx_arr (HH q S tl) 80 = some (0, 4, .inl (sA S 80)) := arA_ok (by decide) rfl (by decide) (by decide)
theorem wa80 {f : Nat → Int32} : mx_set (HH q S tl) 80 (.inl (0, 4, .inl f)) = HH q (stA S 80 f) tl := stA_ok (by decide) rfl (by decide) (by decide)
theorem ar81 : mx_arr (HH q S tl) 81 = some (0, 4, .inl (sA S 81)) := arA_ok (by decide) rfl (by decide) (by decide)
theorem wa81 {f : Nat → Int32} : mx_set (HH q S tl) 81 (.inl (0, 4, .inl f)) = HH q (stA S 81 f) tl := stA_ok (by decide) rfl (by decide) (by decide)
theorem ar82 : mx_arr (HH q S tl) 82 = some (3, 160, .inr (.inl (sB S 82))) := arB_ok (by decide) rfl
theorem wa82 {f : Nat → Int64} : mx_set (HH q S tl) 82 (.inl (3, 160, .inr (.inl f))) = HH q (stB S 82 f) tl := stB_ok (by decide) rfl
theorem ar83 : mx_arr (HH q S tl) 83 = some (0, 4, .inl (sA S 83)) := arA_ok (by decide) rfl (by decide) (by decide)
theorem wa83 {f : Nat → Int32} : mx_set (HH q S tl) 83 (.inl (0, 4, .inl f)) = HH q (stA S 83 f) tl := stA_ok (by decide) rfl (by decide) (by decide)
theorem ar84 : mx_arr (HH q S tl) 84 = some (0, 4, .inl (sA S 84)) := arA_ok (by decide) rfl (by decide) (by decide)
theorem wa84 {f : Nat → Int32} : mx_set (HH q S tl) 84 (.inl (0, 4, .inl f)) = HH q (stA S 84 f) tl := stA_ok (by decide) rfl (by decide) (by decide)
theorem ar85 : mx_arr (HH q S tl) 85 = some (0, 4, .inl (sA S 85)) := arA_ok (by decide) rfl (by decide) (by decide)
theorem wa85 {f : Nat → Int32} : mx_set (HH q S tl) 85 (.inl (0, 4, .inl f)) = HH q (stA S 85 f) tl := stA_ok (by decide) rfl (by decide) (by decide)
theorem ar86 : mx_arr (HH q S tl) 86 = some (0, 30, .inl (sA S 86)) := arA_ok (by decide) rfl (by decide) (by decide)
theorem wa86 {f : Nat → Int32} : mx_set (HH q S tl) 86 (.inl (0, 30, .inl f)) = HH q (stA S 86 f) tl := stA_ok (by decide) rfl (by decide) (by decide)
theorem ar87 : mx_arr (HH q S tl) 87 = some (0, 310, .inl (sA S 87)) := arA_ok (by decide) rfl (by decide) (by decide)
theorem wa87 {f : Nat → Int32} : mx_set (HH q S tl) 87 (.inl (0, 310, .inl f)) = HH q (stA S 87 f) tl := stA_ok (by decide) rfl (by decide) (by decide)
theorem ar88 : mx_arr (HH q S tl) 88 = some (0, 3, .inl (sA S 88)) := arA_ok (by decide) rfl (by decide) (by decide)
theorem wa88 {f : Nat → Int32} : mx_set (HH q S tl) 88 (.inl (0, 3, .inl f)) = HH q (stA S 88 f) tl := stA_ok (by decide) rfl (by decide) (by decide)
theorem og0_5 : OF S 0 p 5 = .int (sI S p 5) := rfl
theorem og0_8 : OF S 0 p 8 = .int (sI S p 8) := rfl
theorem og0_12 : OF S 0 p 12 = .int (sI S p 12) := rfl
theorem og0_13 : OF S 0 p 13 = .int (sI S p 13) := rfl
theorem og0_14 : OF S 0 p 14 = .int (sI S p 14) := rfl
theorem og0_16 : OF S 0 p 16 = .int (sI S p 16) := rfl
theorem og0_23 : OF S 0 p 23 = .int (sI S p 23) := rfl
theorem og1_0 : OF S 1 p 0 = .int (sI S p 0) := rfl
theorem og1_1 : OF S 1 p 1 = .int (sI S p 1) := rfl
theorem og1_2 : OF S 1 p 2 = .int (sI S p 2) := rfl
theorem og2_0 : OF S 2 p 0 = .int (sI S p 0) := rfl
theorem og2_1 : OF S 2 p 1 = .int (sI S p 1) := rfl
theorem og2_2 : OF S 2 p 2 = .int (sI S p 2) := rfl
theorem og2_3 : OF S 2 p 3 = .int (sI S p 3) := rfl
theorem og2_4 : OF S 2 p 4 = .int (sI S p 4) := rfl
theorem og2_5 : OF S 2 p 5 = .int (sI S p 5) := rfl
theorem og2_6 : OF S 2 p 6 = .int (sI S p 6) := rfl
theorem og10_2 : OF S 10 p 2 = .int (sI S p 2) := rfl
theorem og10_5 : OF S 10 p 5 = sR S p 5 := rfl
theorem og10_6 : OF S 10 p 6 = .int (sI S p 6) := rfl
theorem og10_7 : OF S 10 p 7 = .int (sI S p 7) := rfl
theorem og10_8 : OF S 10 p 8 = .int (sI S p 8) := rfl
theorem og11_0 : OF S 11 p 0 = sR S p 0 := rfl
theorem og11_1 : OF S 11 p 1 = sR S p 1 := rfl
theorem og11_2 : OF S 11 p 2 = sR S p 2 := rfl
theorem og11_3 : OF S 11 p 3 = sR S p 3 := rfl
theorem og11_4 : OF S 11 p 4 = sR S p 4 := rfl
theorem og11_5 : OF S 11 p 5 = .int (sI S p 5) := rfl
theorem og11_6 : OF S 11 p 6 = .int (sI S p 6) := rfl
theorem og13_0 : OF S 13 p 0 = .int (sI S p 0) := rfl
theorem og14_0 : OF S 14 p 0 = .int (sI S p 0) := rfl
theorem og15_0 : OF S 15 p 0 = .int (sI S p 0) := rfl
theorem og15_2 : OF S 15 p 2 = .int (sI S p 2) := rfl
theorem og16_0 : OF S 16 p 0 = sR S p 0 := rfl
theorem og16_1 : OF S 16 p 1 = sR S p 1 := rfl
theorem og16_2 : OF S 16 p 2 = sR S p 2 := rfl
theorem og16_3 : OF S 16 p 3 = sR S p 3 := rfl
theorem og16_4 : OF S 16 p 4 = .int (sI S p 4) := rfl
theorem og17_0 : OF S 17 p 0 = sR S p 0 := rfl
theorem og17_1 : OF S 17 p 1 = sR S p 1 := rfl
theorem og17_2 : OF S 17 p 2 = sR S p 2 := rfl
theorem og17_3 : OF S 17 p 3 = sR S p 3 := rfl
theorem og17_4 : OF S 17 p 4 = sR S p 4 := rfl
theorem og17_5 : OF S 17 p 5 = .int (sI S p 5) := rfl
theorem og18_0 : OF S 18 p 0 = sR S p 0 := rfl
theorem og18_1 : OF S 18 p 1 = sR S p 1 := rfl
theorem og18_2 : OF S 18 p 2 = sR S p 2 := rfl
theorem og18_3 : OF S 18 p 3 = sR S p 3 := rfl
theorem og18_4 : OF S 18 p 4 = sR S p 4 := rfl
theorem og18_5 : OF S 18 p 5 = .int (sI S p 5) := rfl
theorem og19_0 : OF S 19 p 0 = .int (sI S p 0) := rfl
theorem og19_1 : OF S 19 p 1 = .int (sI S p 1) := rfl
theorem og19_2 : OF S 19 p 2 = sR S p 2 := rfl
theorem og20_1 : OF S 20 p 1 = .int (sI S p 1) := rfl
theorem og20_9 : OF S 20 p 9 = .int (sI S p 9) := rfl
theorem og20_11 : OF S 20 p 11 = .int (sI S p 11) := rfl
theorem og20_14 : OF S 20 p 14 = .int (sI S p 14) := rfl
theorem og20_16 : OF S 20 p 16 = .int (sI S p 16) := rfl
theorem og20_17 : OF S 20 p 17 = .int (sI S p 17) := rfl
theorem og20_18 : OF S 20 p 18 = .int (sI S p 18) := rfl
theorem og20_19 : OF S 20 p 19 = .int (sI S p 19) := rfl
theorem og20_20 : OF S 20 p 20 = .long (sL S p 20) := rfl
theorem og20_21 : OF S 20 p 21 = .int (sI S p 21) := rfl
theorem og20_22 : OF S 20 p 22 = .int (sI S p 22) := rfl
theorem og20_26 : OF S 20 p 26 = .int (sI S p 26) := rfl
theorem og20_27 : OF S 20 p 27 = .int (sI S p 27) := rfl
theorem og20_28 : OF S 20 p 28 = .int (sI S p 28) := rfl
theorem og20_32 : OF S 20 p 32 = .int (sI S p 32) := rfl
theorem og20_33 : OF S 20 p 33 = .int (sI S p 33) := rfl
theorem og20_34 : OF S 20 p 34 = .int (sI S p 34) := rfl
theorem og20_35 : OF S 20 p 35 = .int (sI S p 35) := rfl
theorem og20_37 : OF S 20 p 37 = .int (sI S p 37) := rfl
theorem og20_44 : OF S 20 p 44 = .int (sI S p 44) := rfl
theorem og20_45 : OF S 20 p 45 = .int (sI S p 45) := rfl
theorem og20_46 : OF S 20 p 46 = .int (sI S p 46) := rfl
theorem og20_48 : OF S 20 p 48 = .int (sI S p 48) := rfl
theorem og20_49 : OF S 20 p 49 = .int (sI S p 49) := rfl
theorem og20_50 : OF S 20 p 50 = .int (sI S p 50) := rfl
theorem og20_52 : OF S 20 p 52 = .int (sI S p 52) := rfl
end MXH
