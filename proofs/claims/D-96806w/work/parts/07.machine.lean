/-! THE ABSTRACT MACHINE: a pure partial evaluator over states (depth, method, pc, locals, stack, heap); references are places in a list of entries -/
abbrev mx_A : Type := (Nat → Int32) ⊕ (Nat → Int64) ⊕ (Nat → Option Nat)
/-- an entry: an array (type code, length, contents), or an object (class number, fields) -/
abbrev mx_E : Type := (Nat × Nat × mx_A) ⊕ (Nat × (Nat → Value))
/-- beside the entries: the script (its length, its ints), how many cells and slots have been made -/
abbrev mx_Q : Type := (Nat × (Nat → Int32)) × Nat × Nat
abbrev mx_H : Type := mx_Q × List mx_E
abbrev mx_L : Type := List (Option Value)
abbrev mx_X : Type := Nat × Nat × Nat × mx_L × List Value × mx_H
abbrev mx_R : Type := (Option Value ⊕ Value) × mx_H
/-! the general limit -/
section MXG
variable {X R : Type}
abbrev mx_N (X R : Type) : Type := Option R ⊕ (X ⊕ (X × (R → Option R ⊕ X)))
def mx_stp (o : X → Option R) (z : mx_N X R) : Option R := match z with
  | .inl r => r
  | .inr (.inl x) => o x
  | .inr (.inr (x, k)) => (o x).bind fun r => match k r with
    | .inl r' => r'
    | .inr x' => o x'
def mx_run (nx : X → mx_N X R) : Nat → X → Option R
  | 0, _ => none
  | n + 1, x => mx_stp (mx_run nx n) (nx x)
theorem mx_stp_mono {o o' : X → Option R} (h : ∀ x r, o x = some r → o' x = some r) {z : mx_N X R} {r : R} (e : mx_stp o z = some r) : mx_stp o' z = some r := by
  rcases z with r0 | x | ⟨x, k⟩
  · exact e
  · exact h x r e
  · obtain ⟨r1, e1, e2⟩ := Option.bind_eq_some_iff.mp e
    refine Option.bind_eq_some_iff.mpr ⟨r1, h x r1 e1, ?_⟩
    revert e2
    cases k r1 with
    | inl r' => exact id
    | inr x' => exact h x' r
theorem mx_run_succ {nx : X → mx_N X R} : ∀ (n : Nat) (x : X) (r : R), mx_run nx n x = some r → mx_run nx (n + 1) x = some r
  | 0, _, _, h => by cases h
  | n + 1, _, _, h => mx_stp_mono (mx_run_succ n) h
theorem mx_run_le {nx : X → mx_N X R} {n k : Nat} (h : n ≤ k) {x : X} {r : R} (e : mx_run nx n x = some r) : mx_run nx k x = some r := by
  induction h with
  | refl => exact e
  | step _ ih => exact mx_run_succ _ _ _ ih
theorem mx_run_fun {nx : X → mx_N X R} {n k : Nat} {x : X} {r r' : R} (e : mx_run nx n x = some r) (e' : mx_run nx k x = some r') : r = r' := by
  have a := mx_run_le (Nat.le_max_left n k) e
  have b := mx_run_le (Nat.le_max_right n k) e'
  exact Option.some.inj (a.symm.trans b)
noncomputable def mx_lim (nx : X → mx_N X R) (x : X) : Option R := @dite (Option R) (∃ r, ∃ n, mx_run nx n x = some r) (Classical.propDecidable _) (fun h => some (Classical.choose h)) (fun _ => none)
theorem mx_lim_iff {nx : X → mx_N X R} {x : X} {r : R} : mx_lim nx x = some r ↔ ∃ n, mx_run nx n x = some r := by
  unfold mx_lim
  constructor
  · intro e
    split at e
    next h =>
      obtain ⟨n, hn⟩ := Classical.choose_spec h
      exact ⟨n, by rw [hn]; exact e⟩
    next => cases e
  · rintro ⟨n, hn⟩
    have h : ∃ r, ∃ n, mx_run nx n x = some r := ⟨r, n, hn⟩
    rw [dif_pos h]
    obtain ⟨k, hk⟩ := Classical.choose_spec h
    exact congrArg some (mx_run_fun hk hn)
theorem mx_lim_eq (nx : X → mx_N X R) (x : X) : mx_lim nx x = mx_stp (mx_lim nx) (nx x) := by
  apply Option.ext
  intro r
  rw [mx_lim_iff]
  constructor
  · rintro ⟨n, hn⟩
    cases n with
    | zero => cases hn
    | succ n => exact mx_stp_mono (fun y r' h => mx_lim_iff.mpr ⟨n, h⟩) hn
  · intro e
    rcases hz : nx x with r0 | x1 | ⟨x1, k⟩
    · rw [hz] at e
      exact ⟨1, by show mx_stp _ (nx x) = _; rw [hz]; exact e⟩
    · rw [hz] at e
      obtain ⟨n, hn⟩ := mx_lim_iff.mp e
      exact ⟨n + 1, by show mx_stp _ (nx x) = _; rw [hz]; exact hn⟩
    · rw [hz] at e
      obtain ⟨r1, e1, e2⟩ := Option.bind_eq_some_iff.mp e
      obtain ⟨n1, h1⟩ := mx_lim_iff.mp e1
      cases hk : k r1 with
      | inl r' =>
        rw [hk] at e2
        refine ⟨n1 + 1, ?_⟩
        show mx_stp _ (nx x) = _
        rw [hz]
        exact Option.bind_eq_some_iff.mpr ⟨r1, h1, by rw [hk]; exact e2⟩
      | inr x' =>
        rw [hk] at e2
        obtain ⟨n2, h2⟩ := mx_lim_iff.mp e2
        refine ⟨max n1 n2 + 1, ?_⟩
        show mx_stp _ (nx x) = _
        rw [hz]
        exact Option.bind_eq_some_iff.mpr ⟨r1, mx_run_le (Nat.le_max_left _ _) h1, by rw [hk]; exact mx_run_le (Nat.le_max_right _ _) h2⟩
end MXG
/-! the states' own parts -/
def mx_wd : Value → Bool
  | .long _ => true
  | .double _ => true
  | _ => false
def mx_dw : Option Value → Nat → Option Value
  | some v, 0 => if mx_wd v then none else some v
  | a, _ => a
def mx_st1 : mx_L → Nat → Value → mx_L
  | [], _, _ => []
  | _ :: l, 0, v => some v :: l
  | a :: l, k + 1, v => mx_dw a k :: mx_st1 l k v
def mx_st2 : mx_L → Nat → Value → mx_L
  | [], _, _ => []
  | _ :: l, 0, v => some v :: l.set 0 none
  | a :: l, k + 1, v => mx_dw a k :: mx_st2 l k v
def mx_lo0 : List Value → mx_L
  | [] => []
  | v :: vs => if mx_wd v then some v :: none :: mx_lo0 vs else some v :: mx_lo0 vs
def mx_pad (n : Nat) (l : mx_L) : mx_L := l ++ List.replicate (n - l.length) none
def mx_ld (l : mx_L) (k : Nat) : Option Value := (l[k]?).join
def mx_obj (h : mx_H) (p : Nat) : Option (Nat × (Nat → Value)) := match h.2[p]? with
  | some (.inr x) => some x
  | _ => none
def mx_arr (h : mx_H) (p : Nat) : Option (Nat × Nat × mx_A) := match h.2[p]? with
  | some (.inl x) => some x
  | _ => none
def mx_set (h : mx_H) (p : Nat) (e : mx_E) : mx_H := (h.1, h.2.set p e)
def mx_bump (q : mx_Q) (c s : Nat) : mx_Q := (q.1, q.2.1 + c, q.2.2 + s)
def mx_psh (h : mx_H) (n : Nat) (e : mx_E) : mx_H := (mx_bump h.1 1 n, h.2 ++ [e])
/-- references to what is no entry are written as .float n: n < 1000 the n-th String constant, 1000 the script, 2000 + c an exception of class c that the machine itself made -/
def mx_inb (i : Int32) (n : Nat) : Bool := decide (¬ (i < 0 ∨ n ≤ i.toNatClampNeg))
/-- what kind of thing a reference is: a class, 100 + an array's type -/
def mx_kd (h : mx_H) (p : Nat) : Nat := match h.2[p]? with
  | some (.inr (c, _)) => c
  | some (.inl (t, _, _)) => 100 + t
  | none => 98
abbrev mx_S : Type := mx_L × List Value × mx_H
def mx_own (y : Nat) : Nat := ((mx_mi y).map fun e => e.2.2.2.2.1).getD 0
def mx_ret (y : Nat) : Option FieldType := (mx_mi y).bind fun e => e.2.2.2.1
def mx_hnd (y : Nat) : List (Nat × Nat × Nat × Nat) := ((mx_mi y).map fun e => e.2.2.2.2.2.2).getD []
/-! the instructions without branches and calls -/
def mx_push (v : Value) (S : mx_S) : Option mx_S := some (S.1, v :: S.2.1, S.2.2)
def mx_ii (f : Int32 → Int32 → Int32) (S : mx_S) : Option mx_S := match S.2.1 with
  | .int b :: .int a :: r => some (S.1, .int (f a b) :: r, S.2.2)
  | _ => none
def mx_ll (f : Int64 → Int64 → Int64) (S : mx_S) : Option mx_S := match S.2.1 with
  | .long b :: .long a :: r => some (S.1, .long (f a b) :: r, S.2.2)
  | _ => none
def mx_li (f : Int64 → Int32 → Int64) (S : mx_S) : Option mx_S := match S.2.1 with
  | .int b :: .long a :: r => some (S.1, .long (f a b) :: r, S.2.2)
  | _ => none
def mx_i1 (f : Int32 → Value) (S : mx_S) : Option mx_S := match S.2.1 with
  | .int a :: r => some (S.1, f a :: r, S.2.2)
  | _ => none
def mx_l1 (f : Int64 → Value) (S : mx_S) : Option mx_S := match S.2.1 with
  | .long a :: r => some (S.1, f a :: r, S.2.2)
  | _ => none
def mx_lcmp (S : mx_S) : Option mx_S := match S.2.1 with
  | .long b :: .long a :: r => some (S.1, .int (if b < a then 1 else if a = b then 0 else -1) :: r, S.2.2)
  | _ => none
def mx_ldI (k : Nat) (S : mx_S) : Option mx_S := match mx_ld S.1 k with
  | some (.int x) => some (S.1, .int x :: S.2.1, S.2.2)
  | _ => none
def mx_ldL (k : Nat) (S : mx_S) : Option mx_S := match mx_ld S.1 k with
  | some (.long x) => some (S.1, .long x :: S.2.1, S.2.2)
  | _ => none
def mx_ldA (k : Nat) (S : mx_S) : Option mx_S := match mx_ld S.1 k with
  | some (.ref x) => some (S.1, .ref x :: S.2.1, S.2.2)
  | some .null => some (S.1, .null :: S.2.1, S.2.2)
  | some (.float x) => some (S.1, .float x :: S.2.1, S.2.2)
  | _ => none
def mx_stI (k : Nat) (S : mx_S) : Option mx_S := match S.2.1 with
  | .int x :: r => if k < S.1.length then some (mx_st1 S.1 k (.int x), r, S.2.2) else none
  | _ => none
def mx_stL (k : Nat) (S : mx_S) : Option mx_S := match S.2.1 with
  | .long x :: r => if k + 1 < S.1.length then some (mx_st2 S.1 k (.long x), r, S.2.2) else none
  | _ => none
def mx_stA (k : Nat) (S : mx_S) : Option mx_S := match S.2.1 with
  | .ref x :: r => if k < S.1.length then some (mx_st1 S.1 k (.ref x), r, S.2.2) else none
  | .null :: r => if k < S.1.length then some (mx_st1 S.1 k .null, r, S.2.2) else none
  | .float x :: r => if k < S.1.length then some (mx_st1 S.1 k (.float x), r, S.2.2) else none
  | _ => none
def mx_inc (k : Nat) (n : Int) (S : mx_S) : Option mx_S := match mx_ld S.1 k with
  | some (.int x) => some (mx_st1 S.1 k (.int (x + Int32.ofInt n)), S.2.1, S.2.2)
  | _ => none
def mx_dup (S : mx_S) : Option mx_S := match S.2.1 with
  | v :: r => if mx_wd v then none else some (S.1, v :: v :: r, S.2.2)
  | _ => none
def mx_dup2 (S : mx_S) : Option mx_S := match S.2.1 with
  | v :: w :: r => if mx_wd v then none else if mx_wd w then none else some (S.1, v :: w :: v :: w :: r, S.2.2)
  | _ => none
def mx_ald (S : mx_S) : Option mx_S := match S.2.1 with
  | .int i :: .float n :: r => if n = 1000 ∧ mx_inb i S.2.2.1.1.1 then some (S.1, .int (S.2.2.1.1.2 i.toNatClampNeg) :: r, S.2.2) else none
  | .int i :: .ref p :: r => match mx_arr S.2.2 p with
    | some (0, n, .inl f) => if mx_inb i n then some (S.1, .int (f i.toNatClampNeg) :: r, S.2.2) else none
    | _ => none
  | _ => none
def mx_bld (S : mx_S) : Option mx_S := match S.2.1 with
  | .int i :: .ref p :: r => match mx_arr S.2.2 p with
    | some (1, n, .inl f) => if mx_inb i n then some (S.1, .int (f i.toNatClampNeg) :: r, S.2.2) else none
    | some (4, n, .inl f) => if mx_inb i n then some (S.1, .int (f i.toNatClampNeg) :: r, S.2.2) else none
    | _ => none
  | _ => none
def mx_sld (S : mx_S) : Option mx_S := match S.2.1 with
  | .int i :: .ref p :: r => match mx_arr S.2.2 p with
    | some (2, n, .inl f) => if mx_inb i n then some (S.1, .int (f i.toNatClampNeg) :: r, S.2.2) else none
    | _ => none
  | _ => none
def mx_lld (S : mx_S) : Option mx_S := match S.2.1 with
  | .int i :: .ref p :: r => match mx_arr S.2.2 p with
    | some (3, n, .inr (.inl f)) => if mx_inb i n then some (S.1, .long (f i.toNatClampNeg) :: r, S.2.2) else none
    | _ => none
  | _ => none
/-- what an array of references holds, as a value (7: an array of Strings) -/
def mx_rv (t : Nat) (o : Option Nat) : Value := match o with
  | none => .null
  | some k => if t = 7 then .float (UInt32.ofNat k) else .ref k
def mx_qld (S : mx_S) : Option mx_S := match S.2.1 with
  | .int i :: .ref p :: r => match mx_arr S.2.2 p with
    | some (t, n, .inr (.inr f)) => if 5 ≤ t ∧ t < 11 ∧ mx_inb i n then some (S.1, mx_rv t (f i.toNatClampNeg) :: r, S.2.2) else none
    | _ => none
  | _ => none
def mx_ast (t : Nat) (nar : Int32 → Int32) (S : mx_S) : Option mx_S := match S.2.1 with
  | .int x :: .int i :: .ref p :: r => match mx_arr S.2.2 p with
    | some (t', n, .inl f) => if t' = t ∧ mx_inb i n then some (S.1, r, mx_set S.2.2 p (.inl (t', n, .inl (upd f i.toNatClampNeg (nar x))))) else none
    | _ => none
  | _ => none
def mx_bst (S : mx_S) : Option mx_S := match mx_ast 1 (fun x => x.toInt8.toInt32) S with
  | some z => some z
  | none => mx_ast 4 (fun x => x &&& 1) S
def mx_lst (S : mx_S) : Option mx_S := match S.2.1 with
  | .long x :: .int i :: .ref p :: r => match mx_arr S.2.2 p with
    | some (3, n, .inr (.inl f)) => if mx_inb i n then some (S.1, r, mx_set S.2.2 p (.inl (3, n, .inr (.inl (vp_updL f i.toNatClampNeg x))))) else none
    | _ => none
  | _ => none
def mx_astOK (k t : Nat) : Bool := mx_astT.contains (k, t) && !(t == 7)
def mx_qst (S : mx_S) : Option mx_S := match S.2.1 with
  | .ref v :: .int i :: .ref p :: r => match mx_arr S.2.2 p with
    | some (t, n, .inr (.inr f)) => if mx_astOK (mx_kd S.2.2 v) t ∧ mx_inb i n then some (S.1, r, mx_set S.2.2 p (.inl (t, n, .inr (.inr (va_up f i.toNatClampNeg (some v)))))) else none
    | _ => none
  | .float v :: .int i :: .ref p :: r => match mx_arr S.2.2 p with
    | some (t, n, .inr (.inr f)) => if t = 7 ∧ v.toNat < 18 ∧ mx_inb i n then some (S.1, r, mx_set S.2.2 p (.inl (t, n, .inr (.inr (va_up f i.toNatClampNeg (some v.toNat)))))) else none
    | _ => none
  | _ => none
def mx_alen (S : mx_S) : Option mx_S := match S.2.1 with
  | .float n :: r => if n = 1000 then some (S.1, .int (Int32.ofNat S.2.2.1.1.1) :: r, S.2.2) else none
  | .ref p :: r => match mx_arr S.2.2 p with
    | some (_, n, _) => some (S.1, .int (Int32.ofNat n) :: r, S.2.2)
    | _ => none
  | _ => none
def mx_gf (o i : Nat) (S : mx_S) : Option mx_S := match S.2.1 with
  | .ref p :: r => match mx_obj S.2.2 p with
    | some (c, F) => match mx_fld o i c with
      | some k => some (S.1, F k :: r, S.2.2)
      | none => none
    | none => none
  | _ => none
/-- may a value be put into a field of this type without change -/
def mx_fit (ty : FieldType) (v : Value) : Bool := match ty, v with
  | .int, .int _ => true
  | .boolean, .int z => z == 0 || z == 1
  | .long, .long _ => true
  | .object _, .ref _ => true
  | .object _, .null => true
  | .array _, .ref _ => true
  | .array _, .null => true
  | _, _ => false
def mx_pf (o i : Nat) (ini : Bool) (S : mx_S) : Option mx_S := match S.2.1 with
  | v :: .ref p :: r => match mx_obj S.2.2 p with
    | some (c, F) => match mx_fld o i c with
      | some k => if mx_fit (mx_fty c k) v && (!mx_fin c k || (ini && mx_dcl c k == mx_cls o)) then some (S.1, r, mx_set S.2.2 p (.inr (c, va_up F k v))) else none
      | none => none
    | none => none
  | _ => none
def mx_dfl (ty : FieldType) : Value := defaultValue ty
def mx_nw (o i : Nat) (S : mx_S) : Option mx_S := match mx_newc o i with
  | some c => some (S.1, .ref S.2.2.2.length :: S.2.1, mx_psh S.2.2 (mx_nf c) (.inr (c, fun k => mx_dfl (mx_fty c k))))
  | none => none
def mx_aty : ArrayType → Option (Nat × mx_A)
  | .int => some (0, .inl fun _ => 0)
  | .byte => some (1, .inl fun _ => 0)
  | .short => some (2, .inl fun _ => 0)
  | .long => some (3, .inr (.inl fun _ => 0))
  | .boolean => some (4, .inl fun _ => 0)
  | _ => none
/-- a new array of at most 400 places -/
def mx_na (a : ArrayType) (S : mx_S) : Option mx_S := match S.2.1 with
  | .int n :: r => match mx_aty a with
    | some (t, z) => if ¬ n < 0 ∧ n.toNatClampNeg ≤ 400 then some (S.1, .ref S.2.2.2.length :: r, mx_psh S.2.2 n.toNatClampNeg (.inl (t, n.toNatClampNeg, z))) else none
    | none => none
  | _ => none
def mx_nq (o i : Nat) (S : mx_S) : Option mx_S := match S.2.1 with
  | .int n :: r => match mx_anewc o i with
    | some t => if ¬ n < 0 ∧ n.toNatClampNeg ≤ 400 then some (S.1, .ref S.2.2.2.length :: r, mx_psh S.2.2 n.toNatClampNeg (.inl (t, n.toNatClampNeg, .inr (.inr fun _ => none)))) else none
    | none => none
  | _ => none
def mx_cc (o i : Nat) (S : mx_S) : Option mx_S := match S.2.1 with
  | .null :: _ => some S
  | .ref p :: _ => match mx_tgt o i with
    | some t => if mx_cast (mx_kd S.2.2 p) t = some true then some S else none
    | none => none
  | _ => none
def mx_io (o i : Nat) (S : mx_S) : Option mx_S := match S.2.1 with
  | .null :: r => some (S.1, .int 0 :: r, S.2.2)
  | .ref p :: r => match mx_tgt o i with
    | some t => match mx_cast (mx_kd S.2.2 p) t with
      | some b => some (S.1, .int (if b then 1 else 0) :: r, S.2.2)
      | none => none
    | none => none
  | _ => none
def mx_lc (o i : Nat) (S : mx_S) : Option mx_S := match mx_ldcT.lookup (o, i) with
  | some v => mx_push (.int v) S
  | none => match mx_ldcs.lookup (o, i) with
    | some k => mx_push (.float (UInt32.ofNat k)) S
    | none => none
def mx_lcw (o i : Nat) (S : mx_S) : Option mx_S := match mx_ldcT.lookup (o, i) with
  | some v => mx_push (.int v) S
  | none => none
def mx_lc2 (o i : Nat) (S : mx_S) : Option mx_S := match mx_ldc2.lookup (o, i) with
  | some v => mx_push (.long v) S
  | none => none
def mx_dv (f : Int32 → Int32 → Int32) (S : mx_S) : Option mx_S := match S.2.1 with
  | .int b :: .int a :: r => if b = 0 then none else some (S.1, .int (f a b) :: r, S.2.2)
  | _ => none
def mx_ldv (S : mx_S) : Option mx_S := match S.2.1 with
  | .long b :: .long a :: r => if b = 0 then none else some (S.1, .long (a / b) :: r, S.2.2)
  | _ => none
/-- one instruction: o the class of the code, ini: it is a constructor's -/
def mx_sim (o : Nat) (ini : Bool) (i : Instr) (S : mx_S) : Option mx_S := match i with
  | .aconst_null => mx_push .null S
  | .iconst n => mx_push (.int (Int32.ofInt n)) S
  | .bipush n => mx_push (.int (Int8.ofInt n).toInt32) S
  | .sipush n => mx_push (.int (Int16.ofInt n).toInt32) S
  | .lconst n => mx_push (.long (Int64.ofNat (n : Nat))) S
  | .ldc i => mx_lc o i S
  | .ldc_w i => mx_lcw o i S
  | .ldc2_w i => mx_lc2 o i S
  | .iload k => mx_ldI k S
  | .iload_n k => mx_ldI k S
  | .lload k => mx_ldL k S
  | .lload_n k => mx_ldL k S
  | .aload k => mx_ldA k S
  | .aload_n k => mx_ldA k S
  | .istore k => mx_stI k S
  | .istore_n k => mx_stI k S
  | .lstore k => mx_stL k S
  | .lstore_n k => mx_stL k S
  | .astore k => mx_stA k S
  | .astore_n k => mx_stA k S
  | .iinc k n => mx_inc k n S
  | .dup => mx_dup S
  | .dup2 => mx_dup2 S
  | .iadd => mx_ii (fun a b => a + b) S
  | .isub => mx_ii (fun a b => a - b) S
  | .imul => mx_ii (fun a b => a * b) S
  | .iand => mx_ii (fun a b => a &&& b) S
  | .ior => mx_ii (fun a b => a ||| b) S
  | .ixor => mx_ii (fun a b => a ^^^ b) S
  | .ishl => mx_ii (fun a b => a <<< (b &&& 31)) S
  | .ishr => mx_ii (fun a b => a >>> (b &&& 31)) S
  | .iushr => mx_ii (fun a b => (a.toUInt32 >>> (b.toUInt32 &&& Int32.toUInt32 31)).toInt32) S
  | .idiv => mx_dv (fun a b => a / b) S
  | .irem => mx_dv (fun a b => a - a / b * b) S
  | .ladd => mx_ll (fun a b => a + b) S
  | .lsub => mx_ll (fun a b => a - b) S
  | .lmul => mx_ll (fun a b => a * b) S
  | .land => mx_ll (fun a b => a &&& b) S
  | .lor => mx_ll (fun a b => a ||| b) S
  | .ldiv => mx_ldv S
  | .lshl => mx_li (fun a b => a <<< (b.toInt64 &&& 63)) S
  | .lshr => mx_li (fun a b => a >>> (b.toInt64 &&& 63)) S
  | .i2l => mx_i1 (fun a => .long a.toInt64) S
  | .i2b => mx_i1 (fun a => .int a.toInt8.toInt32) S
  | .i2s => mx_i1 (fun a => .int a.toInt16.toInt32) S
  | .l2i => mx_l1 (fun a => .int a.toInt32) S
  | .lcmp => mx_lcmp S
  | .iaload => mx_ald S
  | .baload => mx_bld S
  | .saload => mx_sld S
  | .laload => mx_lld S
  | .aaload => mx_qld S
  | .iastore => mx_ast 0 (fun x => x) S
  | .bastore => mx_bst S
  | .sastore => mx_ast 2 (fun x => x.toInt16.toInt32) S
  | .lastore => mx_lst S
  | .aastore => mx_qst S
  | .arraylength => mx_alen S
  | .getfield i => mx_gf o i S
  | .putfield i => mx_pf o i ini S
  | .new i => mx_nw o i S
  | .newarray a => mx_na a S
  | .anewarray i => mx_nq o i S
  | .checkcast i => mx_cc o i S
  | .instanceof i => mx_io o i S
  | _ => none
/-! branches, calls, throws -/
def mx_c (c : Jvm.ClassFile.Cond) (x y : Int32) : Bool := match c with
  | .eq => decide (x = y)
  | .ne => decide (¬ x = y)
  | .lt => decide (x < y)
  | .ge => decide (y ≤ x)
  | .gt => decide (y < x)
  | .le => decide (x ≤ y)
def mx_tg (pc : Nat) (off : Int) : Nat := ((pc : Int) + off).toNat
/-- a switch's way: by the list of its offsets -/
def mx_tsw (x : Int32) : Int → List Int → Int → Int
  | _, [], d => d
  | k, o :: os, d => if x = Int32.ofInt k then o else mx_tsw x (k + 1) os d
def mx_lsw (x : Int32) : List (Int × Int) → Int → Int
  | [], d => d
  | (k, o) :: os, d => if x = Int32.ofInt k then o else mx_lsw x os d
def mx_csz (l : List Value) : Nat := (l.map fun v => v.category).sum
/-- the number of slots that are booked for an exception of the machine's own -/
def mx_NB : Nat := 1010
def mx_hit (pc c : Nat) : List (Nat × Nat × Nat × Nat) → Option Nat
  | [] => none
  | (a, b, t, i) :: l => if a ≤ pc ∧ pc < b ∧ mx_xcl i = some c then some t else mx_hit pc c l
/-- the class of an exception -/
def mx_xg (c : Nat) : Option Nat := if c = 11 ∨ c = 17 ∨ c = 18 ∨ c = 40 ∨ c = 41 ∨ c = 42 then some c else none
def mx_xc (h : mx_H) : Value → Option Nat
  | .ref p => (mx_obj h p).bind fun z => mx_xg z.1
  | .float n => if 2000 ≤ n.toNat then mx_xg (n.toNat - 2000) else none
  | _ => none
def mx_thr (d y pc : Nat) (lo : mx_L) (q : Value) (h : mx_H) : Option mx_R ⊕ mx_X := match mx_xc h q with
  | some c => match mx_hit pc c (mx_hnd y) with
    | some t => .inr (d, y, t, lo, [q], h)
    | none => .inl (some (.inr q, h))
  | none => .inl none
/-- what the machine itself throws: only where little lies on the stack -/
def mx_thr8 (r : List Value) (d y pc : Nat) (lo : mx_L) (q : Value) (h : mx_H) : Option mx_R ⊕ mx_X := if 8 < mx_csz r then .inl none else mx_thr d y pc lo q h
def mx_vmx (h : mx_H) : mx_H := (mx_bump h.1 3 mx_NB, h.2)
def mx_up (z : Option mx_R ⊕ mx_X) : mx_N mx_X mx_R := match z with
  | .inl r => .inl r
  | .inr x => .inr (.inl x)
def mx_max (y : Nat) : Nat := ((mx_mi y).map fun e => e.2.2.1).getD 0
def mx_ent (d y : Nat) (args : List Value) (h : mx_H) : mx_X := (d, y, 0, mx_pad (mx_max y) (mx_lo0 args), [], h)
def mx_psv (v : Option Value) (r : List Value) : List Value := v.toList ++ r
/-- the calls that are steps here: Object's constructor, Math.max, min, arraycopy, String.length, charAt, RuntimeException's constructor -/
def mx_len : Nat → Option (List Int32) := fun k => ([[119, 101, 101, 107], [108, 111, 115, 115], [102, 97, 116], [119, 97, 116, 101, 114], [101, 121, 101, 115], [111, 117, 116], [115, 104, 101, 100], [98, 111, 120], [102, 114, 105, 100, 103, 101], [103, 114, 111, 117, 110, 100], [110, 111, 116], [40], [41], [97, 110, 100], [111, 114], [119, 97, 107, 101], [105, 102], [59]] : List (List Int32))[k]?
def mx_prim (k : Nat) (args : List Value) (h : mx_H) : Option (Option Value × mx_H) := match k, args with
  | 20, [.ref _] => some (none, h)
  | 21, [.int x, .int y] => some (some (.int (if x < y then y else x)), h)
  | 22, [.int x, .int y] => some (some (.int (if y < x then y else x)), h)
  | 23, [.ref p, .int sp, .ref q, .int dp, .int n] => match mx_arr h p, mx_arr h q with
    | some (0, n0, .inl f), some (0, n1, .inl g) => if ¬ sp < 0 ∧ ¬ dp < 0 ∧ ¬ n < 0 ∧ sp.toNatClampNeg + n.toNatClampNeg ≤ n0 ∧ dp.toNatClampNeg + n.toNatClampNeg ≤ n1 then some (none, mx_set h q (.inl (0, n1, .inl (va_cpy f g sp.toNatClampNeg dp.toNatClampNeg n.toNatClampNeg)))) else none
    | some (5, n0, .inr (.inr f)), some (5, n1, .inr (.inr g)) => if ¬ sp < 0 ∧ ¬ dp < 0 ∧ ¬ n < 0 ∧ sp.toNatClampNeg + n.toNatClampNeg ≤ n0 ∧ dp.toNatClampNeg + n.toNatClampNeg ≤ n1 ∧ (List.range n.toNatClampNeg).all (fun i => match f (sp.toNatClampNeg + i) with | none => true | some v => mx_astOK (mx_kd h v) 5) then some (none, mx_set h q (.inl (5, n1, .inr (.inr (va_cpy f g sp.toNatClampNeg dp.toNatClampNeg n.toNatClampNeg))))) else none
    | _, _ => none
  | 24, [.float p] => (mx_len p.toNat).map fun l => (some (.int (Int32.ofNat l.length)), h)
  | 25, [.float p, .int i] => (mx_len p.toNat).bind fun l => if mx_inb i l.length then some (some (.int (l.getD i.toNatClampNeg 0)), h) else none
  | 26, [.ref p, .null, .null, .int a, .int b] => match mx_obj h p with
    | some (c, F) => if a = 0 ∧ b = 0 ∧ (c = 11 ∨ c = 17 ∨ c = 18) then some (none, mx_set h p (.inr (c, va_up (va_up (va_up (va_up F 0 .null) 1 .null) 2 .null) 3 .null))) else none
    | none => none
  | _, _ => none
def mx_call (d y pc np oc i : Nat) (lo : mx_L) (st : List Value) (h : mx_H) : mx_N mx_X mx_R := match mx_ina (mx_own y) i with
  | none => .inl none
  | some (na, fr, oc') => if oc' ≠ oc ∨ st.length < na then .inl none else
    match mx_inv (mx_own y) i (if fr then 0 else match (st[na - 1]? : Option Value) with | some (.ref p) => mx_kd h p | _ => 98) with
    | none => .inl none
    | some (kd, y') => if 8 < mx_csz (st.drop na) then .inl none else if 20 ≤ kd then (match mx_prim kd (st.take na).reverse h with
        | some (v, h') => .inr (.inl (d, y, np, lo, mx_psv v (st.drop na), h'))
        | none => .inl none)
      else match d with
        | 0 => .inl none
        | d' + 1 => if mx_max y' < mx_csz (st.take na).reverse then .inl none else
          .inr (.inr (mx_ent d' y' (st.take na).reverse h, fun r => match r with
            | (.inl v, h') => .inr (d' + 1, y, np, lo, mx_psv v (st.drop na), h')
            | (.inr q, h') => mx_thr (d' + 1) y pc lo q h'))
def mx_isI (y : Nat) : Bool := ((mx_mi y).map fun e => e.1.name == "<init>").getD false
/-- does the method answer with a reference -/
def mx_rr (y : Nat) : Bool := match mx_ret y with
  | some (.object _) => true
  | some (.array _) => true
  | _ => false
def mx_nxi (d y pc np : Nat) (lo : mx_L) (st : List Value) (h : mx_H) (i : Instr) : mx_N mx_X mx_R := match i with
  | .goto off => .inr (.inl (d, y, mx_tg pc off, lo, st, h))
  | .ifCond c off => (match st with
    | .int x :: r => .inr (.inl (d, y, if mx_c c x 0 then mx_tg pc off else np, lo, r, h))
    | _ => .inl none)
  | .if_icmp c off => (match st with
    | .int b :: .int a :: r => .inr (.inl (d, y, if mx_c c a b then mx_tg pc off else np, lo, r, h))
    | _ => .inl none)
  | .ifnonnull off => (match st with
    | .ref _ :: r => .inr (.inl (d, y, mx_tg pc off, lo, r, h))
    | .null :: r => .inr (.inl (d, y, np, lo, r, h))
    | _ => .inl none)
  | .tableswitch df lw _ offs => (match st with
    | .int x :: r => .inr (.inl (d, y, mx_tg pc (mx_tsw x lw offs.toList df), lo, r, h))
    | _ => .inl none)
  | .lookupswitch df ps => (match st with
    | .int x :: r => .inr (.inl (d, y, mx_tg pc (mx_lsw x ps.toList df), lo, r, h))
    | _ => .inl none)
  | .ireturn => (match st with
    | [.int v] => if mx_ret y = some .int ∨ (mx_ret y = some .boolean ∧ (v = 0 ∨ v = 1)) then .inl (some (.inl (some (.int v)), h)) else .inl none
    | _ => .inl none)
  | .areturn => (match st with
    | [.ref p] => if mx_rr y then .inl (some (.inl (some (.ref p)), h)) else .inl none
    | [.null] => if mx_rr y then .inl (some (.inl (some .null), h)) else .inl none
    | _ => .inl none)
  | .return_ => (match st with
    | [] => if mx_ret y = none then .inl (some (.inl none, h)) else .inl none
    | _ => .inl none)
  | .invokevirtual j => mx_call d y pc np 2 j lo st h
  | .invokespecial j => mx_call d y pc np 1 j lo st h
  | .invokestatic j => mx_call d y pc np 0 j lo st h
  | .invokeinterface j _ => mx_call d y pc np 3 j lo st h
  | .athrow => (match st with
    | .ref q :: _ => mx_up (mx_thr d y pc lo (.ref q) h)
    | _ => .inl none)
  | .idiv => (match st with
    | .int b :: .int a :: r => if b = 0 then mx_up (mx_thr8 r d y pc lo (.float 2042) (mx_vmx h)) else .inr (.inl (d, y, np, lo, .int (a / b) :: r, h))
    | _ => .inl none)
  | .newarray a => (match st with
    | .int k :: r => if k < 0 then mx_up (mx_thr8 r d y pc lo (.float 2041) (mx_vmx h)) else match mx_na a (lo, .int k :: r, h) with
      | some S => .inr (.inl (d, y, np, S.1, S.2.1, S.2.2))
      | none => .inl none
    | _ => .inl none)
  | .checkcast j => (match st with
    | .null :: r => .inr (.inl (d, y, np, lo, .null :: r, h))
    | .ref p :: r => match mx_tgt (mx_own y) j with
      | some t => match mx_cast (mx_kd h p) t with
        | some true => .inr (.inl (d, y, np, lo, .ref p :: r, h))
        | some false => mx_up (mx_thr8 r d y pc lo (.float 2040) (mx_vmx h))
        | none => .inl none
      | none => .inl none
    | _ => .inl none)
  | i => match mx_sim (mx_own y) (mx_isI y) i (lo, st, h) with
    | some S => .inr (.inl (d, y, np, S.1, S.2.1, S.2.2))
    | none => .inl none
def mx_nx (x : mx_X) : mx_N mx_X mx_R := match mx_ins x.2.1 x.2.2.1 with
  | none => .inl none
  | some (i, n) => mx_nxi x.1 x.2.1 x.2.2.1 (x.2.2.1 + n) x.2.2.2.1 x.2.2.2.2.1 x.2.2.2.2.2 i
noncomputable def ev (d y pc : Nat) (lo : mx_L) (st : List Value) (h : mx_H) : Option mx_R := mx_lim mx_nx (d, y, pc, lo, st, h)
noncomputable def evM (d y : Nat) (args : List Value) (h : mx_H) : Option mx_R := mx_lim mx_nx (mx_ent d y args h)
/-! HOW A STATE RUNS, row by row: for rewriting -/
section MXR
variable {d y pc np : Nat} {lo : mx_L} {r st : List Value} {h : mx_H}
noncomputable def evN (z : mx_N mx_X mx_R) : Option mx_R := mx_stp (mx_lim mx_nx) z
noncomputable def evI (d y pc np : Nat) (lo : mx_L) (st : List Value) (h : mx_H) (i : Instr) : Option mx_R := evN (mx_nxi d y pc np lo st h i)
theorem ev_u {i : Instr} {n : Nat} (hi : mx_ins y pc = some (i, n)) (hn : pc + n = np) : ev d y pc lo st h = evI d y pc np lo st h i := by
  subst hn
  unfold ev
  rw [mx_lim_eq]
  unfold evI evN mx_nx
  dsimp only
  rw [hi]
theorem evM_ev (args : List Value) : evM d y args h = ev d y 0 (mx_pad (mx_max y) (mx_lo0 args)) [] h := rfl
theorem ei_sim {i : Instr} {S : mx_S} (hc : mx_nxi d y pc np lo st h i = (match mx_sim (mx_own y) (mx_isI y) i (lo, st, h) with | some S => .inr (.inl (d, y, np, S.1, S.2.1, S.2.2)) | none => .inl none)) (hs : mx_sim (mx_own y) (mx_isI y) i (lo, st, h) = some S) : evI d y pc np lo st h i = ev d y np S.1 S.2.1 S.2.2 := by
  unfold evI
  rw [hc, hs]
  rfl
theorem ei_iadd {a b : Int32} : evI d y pc np lo (.int b :: .int a :: r) h .iadd = ev d y np lo (.int (a + b) :: r) h := rfl
theorem ei_isub {a b : Int32} : evI d y pc np lo (.int b :: .int a :: r) h .isub = ev d y np lo (.int (a - b) :: r) h := rfl
theorem ei_imul {a b : Int32} : evI d y pc np lo (.int b :: .int a :: r) h .imul = ev d y np lo (.int (a * b) :: r) h := rfl
theorem ei_iand {a b : Int32} : evI d y pc np lo (.int b :: .int a :: r) h .iand = ev d y np lo (.int (a &&& b) :: r) h := rfl
theorem ei_ior {a b : Int32} : evI d y pc np lo (.int b :: .int a :: r) h .ior = ev d y np lo (.int (a ||| b) :: r) h := rfl
theorem ei_ixor {a b : Int32} : evI d y pc np lo (.int b :: .int a :: r) h .ixor = ev d y np lo (.int (a ^^^ b) :: r) h := rfl
theorem ei_ishl {a b : Int32} : evI d y pc np lo (.int b :: .int a :: r) h .ishl = ev d y np lo (.int (a <<< (b &&& 31)) :: r) h := rfl
theorem ei_ishr {a b : Int32} : evI d y pc np lo (.int b :: .int a :: r) h .ishr = ev d y np lo (.int (a >>> (b &&& 31)) :: r) h := rfl
theorem ei_iushr {a b : Int32} : evI d y pc np lo (.int b :: .int a :: r) h .iushr = ev d y np lo (.int ((a.toUInt32 >>> (b.toUInt32 &&& Int32.toUInt32 31)).toInt32) :: r) h := rfl
theorem ei_ladd {a b : Int64} : evI d y pc np lo (.long b :: .long a :: r) h .ladd = ev d y np lo (.long (a + b) :: r) h := rfl
theorem ei_lsub {a b : Int64} : evI d y pc np lo (.long b :: .long a :: r) h .lsub = ev d y np lo (.long (a - b) :: r) h := rfl
theorem ei_lmul {a b : Int64} : evI d y pc np lo (.long b :: .long a :: r) h .lmul = ev d y np lo (.long (a * b) :: r) h := rfl
theorem ei_land {a b : Int64} : evI d y pc np lo (.long b :: .long a :: r) h .land = ev d y np lo (.long (a &&& b) :: r) h := rfl
theorem ei_lor {a b : Int64} : evI d y pc np lo (.long b :: .long a :: r) h .lor = ev d y np lo (.long (a ||| b) :: r) h := rfl
theorem ei_lshl {a : Int64} {b : Int32} : evI d y pc np lo (.int b :: .long a :: r) h .lshl = ev d y np lo (.long (a <<< (b.toInt64 &&& 63)) :: r) h := rfl
theorem ei_lshr {a : Int64} {b : Int32} : evI d y pc np lo (.int b :: .long a :: r) h .lshr = ev d y np lo (.long (a >>> (b.toInt64 &&& 63)) :: r) h := rfl
theorem ei_i2l {a : Int32} : evI d y pc np lo (.int a :: r) h .i2l = ev d y np lo (.long a.toInt64 :: r) h := rfl
theorem ei_i2b {a : Int32} : evI d y pc np lo (.int a :: r) h .i2b = ev d y np lo (.int a.toInt8.toInt32 :: r) h := rfl
theorem ei_i2s {a : Int32} : evI d y pc np lo (.int a :: r) h .i2s = ev d y np lo (.int a.toInt16.toInt32 :: r) h := rfl
theorem ei_l2i {a : Int64} : evI d y pc np lo (.long a :: r) h .l2i = ev d y np lo (.int a.toInt32 :: r) h := rfl
theorem ei_lcmp {a b : Int64} : evI d y pc np lo (.long b :: .long a :: r) h .lcmp = ev d y np lo (.int (if b < a then 1 else if a = b then 0 else -1) :: r) h := rfl
theorem ei_irem {a b : Int32} : evI d y pc np lo (.int b :: .int a :: r) h .irem = if b = 0 then none else ev d y np lo (.int (a - a / b * b) :: r) h := by
  unfold evI
  show evN (match (if b = 0 then none else some (lo, .int (a - a / b * b) :: r, h) : Option mx_S) with | some S => .inr (.inl (d, y, np, S.1, S.2.1, S.2.2)) | none => .inl none) = _
  by_cases c : b = 0
  · rw [if_pos c, if_pos c]; rfl
  · rw [if_neg c, if_neg c]; rfl
theorem ei_ldiv {a b : Int64} : evI d y pc np lo (.long b :: .long a :: r) h .ldiv = if b = 0 then none else ev d y np lo (.long (a / b) :: r) h := by
  unfold evI
  show evN (match (if b = 0 then none else some (lo, .long (a / b) :: r, h) : Option mx_S) with | some S => .inr (.inl (d, y, np, S.1, S.2.1, S.2.2)) | none => .inl none) = _
  by_cases c : b = 0
  · rw [if_pos c, if_pos c]; rfl
  · rw [if_neg c, if_neg c]; rfl
/-- a throw out of this method, or into its handler -/
noncomputable def evX (d y pc : Nat) (lo : mx_L) (q : Value) (h : mx_H) : Option mx_R := evN (mx_up (mx_thr d y pc lo q h))
theorem evX_row {q : Value} {c : Nat} (ho : mx_xc h q = some c) : evX d y pc lo q h = match mx_hit pc c (mx_hnd y) with
    | some t => ev d y t lo [q] h
    | none => some (.inr q, h) := by
  unfold evX mx_thr
  rw [ho]
  cases hh : mx_hit pc c (mx_hnd y) <;> (dsimp only; rw [hh]; rfl)
/-- the machine's own throw -/
noncomputable def evX8 (r : List Value) (d y pc : Nat) (lo : mx_L) (q : Value) (h : mx_H) : Option mx_R := evN (mx_up (mx_thr8 r d y pc lo q h))
theorem evX8_row {q : Value} (hr : mx_csz r ≤ 8) : evX8 r d y pc lo q h = evX d y pc lo q h := by
  unfold evX8 mx_thr8
  rw [if_neg (by omega)]
  rfl
theorem ei_idiv {a b : Int32} : evI d y pc np lo (.int b :: .int a :: r) h .idiv = if b = 0 then evX8 r d y pc lo (.float 2042) (mx_vmx h) else ev d y np lo (.int (a / b) :: r) h := by
  unfold evI
  show evN (if b = 0 then mx_up (mx_thr8 r d y pc lo (.float 2042) (mx_vmx h)) else .inr (.inl (d, y, np, lo, .int (a / b) :: r, h))) = _
  by_cases c : b = 0
  · rw [if_pos c, if_pos c]; rfl
  · rw [if_neg c, if_neg c]; rfl
theorem ei_athrow {q : Nat} : evI d y pc np lo (.ref q :: r) h .athrow = evX d y pc lo (.ref q) h := rfl
theorem ei_null : evI d y pc np lo st h .aconst_null = ev d y np lo (.null :: st) h := rfl
theorem ei_dupI {a : Int32} : evI d y pc np lo (.int a :: r) h .dup = ev d y np lo (.int a :: .int a :: r) h := rfl
theorem ei_dupR {a : Nat} : evI d y pc np lo (.ref a :: r) h .dup = ev d y np lo (.ref a :: .ref a :: r) h := rfl
theorem ei_dupF {a : UInt32} : evI d y pc np lo (.float a :: r) h .dup = ev d y np lo (.float a :: .float a :: r) h := rfl
theorem ei_dup2 {a : Nat} {i : Int32} : evI d y pc np lo (.int i :: .ref a :: r) h .dup2 = ev d y np lo (.int i :: .ref a :: .int i :: .ref a :: r) h := rfl
theorem ei_ret (hr : mx_ret y = none) : evI d y pc np lo [] h .return_ = some (.inl none, h) := by
  unfold evI
  show evN (if mx_ret y = none then .inl (some (.inl none, h)) else .inl none) = _
  rw [if_pos hr]
  rfl
theorem ei_aretR {p : Nat} (hr : mx_rr y = true) : evI d y pc np lo [.ref p] h .areturn = some (.inl (some (.ref p)), h) := by
  unfold evI
  show evN (if mx_rr y then .inl (some (.inl (some (.ref p)), h)) else .inl none) = _
  rw [if_pos hr]
  rfl
theorem ei_aretN (hr : mx_rr y = true) : evI d y pc np lo [.null] h .areturn = some (.inl (some .null), h) := by
  unfold evI
  show evN (if mx_rr y then .inl (some (.inl (some .null), h)) else .inl none) = _
  rw [if_pos hr]
  rfl
/-- the end with an int, or with a boolean -/
theorem ei_ireti {v : Int32} (hr : mx_ret y = some .int) : evI d y pc np lo [.int v] h .ireturn = some (.inl (some (.int v)), h) := by
  unfold evI
  show evN (if mx_ret y = some .int ∨ (mx_ret y = some .boolean ∧ (v = 0 ∨ v = 1)) then .inl (some (.inl (some (.int v)), h)) else .inl none) = _
  rw [if_pos (Or.inl hr)]
  rfl
theorem ei_iretz {v : Int32} (hr : mx_ret y = some .boolean) : evI d y pc np lo [.int v] h .ireturn = if v = 0 ∨ v = 1 then some (.inl (some (.int v)), h) else none := by
  unfold evI
  show evN (if mx_ret y = some .int ∨ (mx_ret y = some .boolean ∧ (v = 0 ∨ v = 1)) then .inl (some (.inl (some (.int v)), h)) else .inl none) = _
  by_cases c : v = 0 ∨ v = 1
  · rw [if_pos c, if_pos (Or.inr ⟨hr, c⟩)]; rfl
  · rw [if_neg c, if_neg (fun z => z.elim (fun z => by rw [hr] at z; cases z) (fun z => c z.2))]; rfl
/-! straight instructions by their function -/
noncomputable def evS (f : mx_S → Option mx_S) (d y np : Nat) (lo : mx_L) (st : List Value) (h : mx_H) : Option mx_R := match f (lo, st, h) with
  | some S => ev d y np S.1 S.2.1 S.2.2
  | none => none
theorem evN_ite {c : Prop} [Decidable c] {S : mx_S} : evN (match (if c then some S else none : Option mx_S) with | some S => .inr (.inl (d, y, np, S.1, S.2.1, S.2.2)) | none => .inl none) = if c then ev d y np S.1 S.2.1 S.2.2 else none := by
  by_cases g : c
  · rw [if_pos g, if_pos g]; rfl
  · rw [if_neg g, if_neg g]; rfl
theorem evS_ite {c : Prop} [Decidable c] {S : mx_S} : (match (if c then some S else none : Option mx_S) with | some S => ev d y np S.1 S.2.1 S.2.2 | none => none) = if c then ev d y np S.1 S.2.1 S.2.2 else none := by
  by_cases g : c
  · rw [if_pos g, if_pos g]
  · rw [if_neg g, if_neg g]
theorem ev_s {i : Instr} {n : Nat} {f : mx_S → Option mx_S} (hi : mx_ins y pc = some (i, n)) (hn : pc + n = np) (hf : mx_nxi d y pc np lo st h i = (match f (lo, st, h) with | some S => .inr (.inl (d, y, np, S.1, S.2.1, S.2.2)) | none => .inl none)) : ev d y pc lo st h = evS f d y np lo st h := by
  rw [ev_u hi hn]
  unfold evI evS
  rw [hf]
  cases f (lo, st, h) <;> rfl
theorem es_push {v : Value} : evS (mx_push v) d y np lo st h = ev d y np lo (v :: st) h := rfl
theorem es_ldI0 {x : Int32} {l : mx_L} : evS (mx_ldI 0) d y np (some (.int x) :: l) st h = ev d y np (some (.int x) :: l) (.int x :: st) h := rfl
theorem es_ldL0 {x : Int64} {l : mx_L} : evS (mx_ldL 0) d y np (some (.long x) :: l) st h = ev d y np (some (.long x) :: l) (.long x :: st) h := rfl
theorem es_ldA0 {x : Nat} {l : mx_L} : evS (mx_ldA 0) d y np (some (.ref x) :: l) st h = ev d y np (some (.ref x) :: l) (.ref x :: st) h := rfl
theorem es_ldN0 {l : mx_L} : evS (mx_ldA 0) d y np (some (.null) :: l) st h = ev d y np (some (.null) :: l) (.null :: st) h := rfl
theorem es_ldI1 {x : Int32} {l : mx_L} {a0 : Option Value} : evS (mx_ldI 1) d y np (a0 :: some (.int x) :: l) st h = ev d y np (a0 :: some (.int x) :: l) (.int x :: st) h := rfl
theorem es_ldL1 {x : Int64} {l : mx_L} {a0 : Option Value} : evS (mx_ldL 1) d y np (a0 :: some (.long x) :: l) st h = ev d y np (a0 :: some (.long x) :: l) (.long x :: st) h := rfl
theorem es_ldA1 {x : Nat} {l : mx_L} {a0 : Option Value} : evS (mx_ldA 1) d y np (a0 :: some (.ref x) :: l) st h = ev d y np (a0 :: some (.ref x) :: l) (.ref x :: st) h := rfl
theorem es_ldN1 {l : mx_L} {a0 : Option Value} : evS (mx_ldA 1) d y np (a0 :: some (.null) :: l) st h = ev d y np (a0 :: some (.null) :: l) (.null :: st) h := rfl
theorem es_ldI2 {x : Int32} {l : mx_L} {a0 a1 : Option Value} : evS (mx_ldI 2) d y np (a0 :: a1 :: some (.int x) :: l) st h = ev d y np (a0 :: a1 :: some (.int x) :: l) (.int x :: st) h := rfl
theorem es_ldL2 {x : Int64} {l : mx_L} {a0 a1 : Option Value} : evS (mx_ldL 2) d y np (a0 :: a1 :: some (.long x) :: l) st h = ev d y np (a0 :: a1 :: some (.long x) :: l) (.long x :: st) h := rfl
theorem es_ldA2 {x : Nat} {l : mx_L} {a0 a1 : Option Value} : evS (mx_ldA 2) d y np (a0 :: a1 :: some (.ref x) :: l) st h = ev d y np (a0 :: a1 :: some (.ref x) :: l) (.ref x :: st) h := rfl
theorem es_ldN2 {l : mx_L} {a0 a1 : Option Value} : evS (mx_ldA 2) d y np (a0 :: a1 :: some (.null) :: l) st h = ev d y np (a0 :: a1 :: some (.null) :: l) (.null :: st) h := rfl
theorem es_ldI3 {x : Int32} {l : mx_L} {a0 a1 a2 : Option Value} : evS (mx_ldI 3) d y np (a0 :: a1 :: a2 :: some (.int x) :: l) st h = ev d y np (a0 :: a1 :: a2 :: some (.int x) :: l) (.int x :: st) h := rfl
theorem es_ldL3 {x : Int64} {l : mx_L} {a0 a1 a2 : Option Value} : evS (mx_ldL 3) d y np (a0 :: a1 :: a2 :: some (.long x) :: l) st h = ev d y np (a0 :: a1 :: a2 :: some (.long x) :: l) (.long x :: st) h := rfl
theorem es_ldA3 {x : Nat} {l : mx_L} {a0 a1 a2 : Option Value} : evS (mx_ldA 3) d y np (a0 :: a1 :: a2 :: some (.ref x) :: l) st h = ev d y np (a0 :: a1 :: a2 :: some (.ref x) :: l) (.ref x :: st) h := rfl
theorem es_ldN3 {l : mx_L} {a0 a1 a2 : Option Value} : evS (mx_ldA 3) d y np (a0 :: a1 :: a2 :: some (.null) :: l) st h = ev d y np (a0 :: a1 :: a2 :: some (.null) :: l) (.null :: st) h := rfl
theorem es_ldI4 {x : Int32} {l : mx_L} {a0 a1 a2 a3 : Option Value} : evS (mx_ldI 4) d y np (a0 :: a1 :: a2 :: a3 :: some (.int x) :: l) st h = ev d y np (a0 :: a1 :: a2 :: a3 :: some (.int x) :: l) (.int x :: st) h := rfl
theorem es_ldL4 {x : Int64} {l : mx_L} {a0 a1 a2 a3 : Option Value} : evS (mx_ldL 4) d y np (a0 :: a1 :: a2 :: a3 :: some (.long x) :: l) st h = ev d y np (a0 :: a1 :: a2 :: a3 :: some (.long x) :: l) (.long x :: st) h := rfl
theorem es_ldA4 {x : Nat} {l : mx_L} {a0 a1 a2 a3 : Option Value} : evS (mx_ldA 4) d y np (a0 :: a1 :: a2 :: a3 :: some (.ref x) :: l) st h = ev d y np (a0 :: a1 :: a2 :: a3 :: some (.ref x) :: l) (.ref x :: st) h := rfl
theorem es_ldN4 {l : mx_L} {a0 a1 a2 a3 : Option Value} : evS (mx_ldA 4) d y np (a0 :: a1 :: a2 :: a3 :: some (.null) :: l) st h = ev d y np (a0 :: a1 :: a2 :: a3 :: some (.null) :: l) (.null :: st) h := rfl
theorem es_ldI5 {x : Int32} {l : mx_L} {a0 a1 a2 a3 a4 : Option Value} : evS (mx_ldI 5) d y np (a0 :: a1 :: a2 :: a3 :: a4 :: some (.int x) :: l) st h = ev d y np (a0 :: a1 :: a2 :: a3 :: a4 :: some (.int x) :: l) (.int x :: st) h := rfl
theorem es_ldL5 {x : Int64} {l : mx_L} {a0 a1 a2 a3 a4 : Option Value} : evS (mx_ldL 5) d y np (a0 :: a1 :: a2 :: a3 :: a4 :: some (.long x) :: l) st h = ev d y np (a0 :: a1 :: a2 :: a3 :: a4 :: some (.long x) :: l) (.long x :: st) h := rfl
theorem es_ldA5 {x : Nat} {l : mx_L} {a0 a1 a2 a3 a4 : Option Value} : evS (mx_ldA 5) d y np (a0 :: a1 :: a2 :: a3 :: a4 :: some (.ref x) :: l) st h = ev d y np (a0 :: a1 :: a2 :: a3 :: a4 :: some (.ref x) :: l) (.ref x :: st) h := rfl
theorem es_ldN5 {l : mx_L} {a0 a1 a2 a3 a4 : Option Value} : evS (mx_ldA 5) d y np (a0 :: a1 :: a2 :: a3 :: a4 :: some (.null) :: l) st h = ev d y np (a0 :: a1 :: a2 :: a3 :: a4 :: some (.null) :: l) (.null :: st) h := rfl
theorem es_ldI6 {x : Int32} {l : mx_L} {a0 a1 a2 a3 a4 a5 : Option Value} : evS (mx_ldI 6) d y np (a0 :: a1 :: a2 :: a3 :: a4 :: a5 :: some (.int x) :: l) st h = ev d y np (a0 :: a1 :: a2 :: a3 :: a4 :: a5 :: some (.int x) :: l) (.int x :: st) h := rfl
theorem es_ldL6 {x : Int64} {l : mx_L} {a0 a1 a2 a3 a4 a5 : Option Value} : evS (mx_ldL 6) d y np (a0 :: a1 :: a2 :: a3 :: a4 :: a5 :: some (.long x) :: l) st h = ev d y np (a0 :: a1 :: a2 :: a3 :: a4 :: a5 :: some (.long x) :: l) (.long x :: st) h := rfl
theorem es_ldA6 {x : Nat} {l : mx_L} {a0 a1 a2 a3 a4 a5 : Option Value} : evS (mx_ldA 6) d y np (a0 :: a1 :: a2 :: a3 :: a4 :: a5 :: some (.ref x) :: l) st h = ev d y np (a0 :: a1 :: a2 :: a3 :: a4 :: a5 :: some (.ref x) :: l) (.ref x :: st) h := rfl
theorem es_ldN6 {l : mx_L} {a0 a1 a2 a3 a4 a5 : Option Value} : evS (mx_ldA 6) d y np (a0 :: a1 :: a2 :: a3 :: a4 :: a5 :: some (.null) :: l) st h = ev d y np (a0 :: a1 :: a2 :: a3 :: a4 :: a5 :: some (.null) :: l) (.null :: st) h := rfl
theorem es_ldI7 {x : Int32} {l : mx_L} {a0 a1 a2 a3 a4 a5 a6 : Option Value} : evS (mx_ldI 7) d y np (a0 :: a1 :: a2 :: a3 :: a4 :: a5 :: a6 :: some (.int x) :: l) st h = ev d y np (a0 :: a1 :: a2 :: a3 :: a4 :: a5 :: a6 :: some (.int x) :: l) (.int x :: st) h := rfl
theorem es_ldL7 {x : Int64} {l : mx_L} {a0 a1 a2 a3 a4 a5 a6 : Option Value} : evS (mx_ldL 7) d y np (a0 :: a1 :: a2 :: a3 :: a4 :: a5 :: a6 :: some (.long x) :: l) st h = ev d y np (a0 :: a1 :: a2 :: a3 :: a4 :: a5 :: a6 :: some (.long x) :: l) (.long x :: st) h := rfl
theorem es_ldA7 {x : Nat} {l : mx_L} {a0 a1 a2 a3 a4 a5 a6 : Option Value} : evS (mx_ldA 7) d y np (a0 :: a1 :: a2 :: a3 :: a4 :: a5 :: a6 :: some (.ref x) :: l) st h = ev d y np (a0 :: a1 :: a2 :: a3 :: a4 :: a5 :: a6 :: some (.ref x) :: l) (.ref x :: st) h := rfl
theorem es_ldN7 {l : mx_L} {a0 a1 a2 a3 a4 a5 a6 : Option Value} : evS (mx_ldA 7) d y np (a0 :: a1 :: a2 :: a3 :: a4 :: a5 :: a6 :: some (.null) :: l) st h = ev d y np (a0 :: a1 :: a2 :: a3 :: a4 :: a5 :: a6 :: some (.null) :: l) (.null :: st) h := rfl
theorem es_ldI8 {x : Int32} {l : mx_L} {a0 a1 a2 a3 a4 a5 a6 a7 : Option Value} : evS (mx_ldI 8) d y np (a0 :: a1 :: a2 :: a3 :: a4 :: a5 :: a6 :: a7 :: some (.int x) :: l) st h = ev d y np (a0 :: a1 :: a2 :: a3 :: a4 :: a5 :: a6 :: a7 :: some (.int x) :: l) (.int x :: st) h := rfl
theorem es_ldL8 {x : Int64} {l : mx_L} {a0 a1 a2 a3 a4 a5 a6 a7 : Option Value} : evS (mx_ldL 8) d y np (a0 :: a1 :: a2 :: a3 :: a4 :: a5 :: a6 :: a7 :: some (.long x) :: l) st h = ev d y np (a0 :: a1 :: a2 :: a3 :: a4 :: a5 :: a6 :: a7 :: some (.long x) :: l) (.long x :: st) h := rfl
theorem es_ldA8 {x : Nat} {l : mx_L} {a0 a1 a2 a3 a4 a5 a6 a7 : Option Value} : evS (mx_ldA 8) d y np (a0 :: a1 :: a2 :: a3 :: a4 :: a5 :: a6 :: a7 :: some (.ref x) :: l) st h = ev d y np (a0 :: a1 :: a2 :: a3 :: a4 :: a5 :: a6 :: a7 :: some (.ref x) :: l) (.ref x :: st) h := rfl
theorem es_ldN8 {l : mx_L} {a0 a1 a2 a3 a4 a5 a6 a7 : Option Value} : evS (mx_ldA 8) d y np (a0 :: a1 :: a2 :: a3 :: a4 :: a5 :: a6 :: a7 :: some (.null) :: l) st h = ev d y np (a0 :: a1 :: a2 :: a3 :: a4 :: a5 :: a6 :: a7 :: some (.null) :: l) (.null :: st) h := rfl
theorem es_ldI9 {x : Int32} {l : mx_L} {a0 a1 a2 a3 a4 a5 a6 a7 a8 : Option Value} : evS (mx_ldI 9) d y np (a0 :: a1 :: a2 :: a3 :: a4 :: a5 :: a6 :: a7 :: a8 :: some (.int x) :: l) st h = ev d y np (a0 :: a1 :: a2 :: a3 :: a4 :: a5 :: a6 :: a7 :: a8 :: some (.int x) :: l) (.int x :: st) h := rfl
theorem es_ldL9 {x : Int64} {l : mx_L} {a0 a1 a2 a3 a4 a5 a6 a7 a8 : Option Value} : evS (mx_ldL 9) d y np (a0 :: a1 :: a2 :: a3 :: a4 :: a5 :: a6 :: a7 :: a8 :: some (.long x) :: l) st h = ev d y np (a0 :: a1 :: a2 :: a3 :: a4 :: a5 :: a6 :: a7 :: a8 :: some (.long x) :: l) (.long x :: st) h := rfl
theorem es_ldA9 {x : Nat} {l : mx_L} {a0 a1 a2 a3 a4 a5 a6 a7 a8 : Option Value} : evS (mx_ldA 9) d y np (a0 :: a1 :: a2 :: a3 :: a4 :: a5 :: a6 :: a7 :: a8 :: some (.ref x) :: l) st h = ev d y np (a0 :: a1 :: a2 :: a3 :: a4 :: a5 :: a6 :: a7 :: a8 :: some (.ref x) :: l) (.ref x :: st) h := rfl
theorem es_ldN9 {l : mx_L} {a0 a1 a2 a3 a4 a5 a6 a7 a8 : Option Value} : evS (mx_ldA 9) d y np (a0 :: a1 :: a2 :: a3 :: a4 :: a5 :: a6 :: a7 :: a8 :: some (.null) :: l) st h = ev d y np (a0 :: a1 :: a2 :: a3 :: a4 :: a5 :: a6 :: a7 :: a8 :: some (.null) :: l) (.null :: st) h := rfl
theorem mx_dw_s (a : Option Value) (k : Nat) : mx_dw a (k + 1) = a := by cases a <;> rfl
theorem mx_dw_n : mx_dw none 0 = none := rfl
theorem mx_dw_i {x : Int32} : mx_dw (some (.int x)) 0 = some (.int x) := rfl
theorem mx_dw_r {x : Nat} : mx_dw (some (.ref x)) 0 = some (.ref x) := rfl
theorem mx_dw_u : mx_dw (some .null) 0 = some .null := rfl
theorem mx_dw_l {x : Int64} : mx_dw (some (.long x)) 0 = none := rfl
theorem mx_len_lt {k n : Nat} (l : List (Option Value)) (h : k < n) (hn : n ≤ l.length) : k < l.length := Nat.lt_of_lt_of_le h hn
theorem es_stI0 {x : Int32} {b : Option Value} {l : mx_L} : evS (mx_stI 0) d y np (b :: l) (.int x :: r) h = ev d y np (some (.int x) :: l) r h := by
  unfold evS mx_stI
  dsimp only
  rw [if_pos (by simp only [List.length_cons]; omega)]
  simp only [mx_st1, mx_dw_s]
theorem es_stL0 {x : Int64} {b : Option Value} {l : mx_L} {b2 : Option Value} : evS (mx_stL 0) d y np (b :: b2 :: l) (.long x :: r) h = ev d y np (some (.long x) :: none :: l) r h := by
  unfold evS mx_stL
  dsimp only
  rw [if_pos (by simp only [List.length_cons]; omega)]
  simp only [mx_st2, mx_dw_s, List.set_cons_zero]
theorem es_stA0 {x : Nat} {b : Option Value} {l : mx_L} : evS (mx_stA 0) d y np (b :: l) (.ref x :: r) h = ev d y np (some (.ref x) :: l) r h := by
  unfold evS mx_stA
  dsimp only
  rw [if_pos (by simp only [List.length_cons]; omega)]
  simp only [mx_st1, mx_dw_s]
theorem es_stN0 {b : Option Value} {l : mx_L} : evS (mx_stA 0) d y np (b :: l) (.null :: r) h = ev d y np (some (.null) :: l) r h := by
  unfold evS mx_stA
  dsimp only
  rw [if_pos (by simp only [List.length_cons]; omega)]
  simp only [mx_st1, mx_dw_s]
theorem es_inc0 {x : Int32} {n : Int} {l : mx_L} : evS (mx_inc 0 n) d y np (some (.int x) :: l) st h = ev d y np (some (.int (x + Int32.ofInt n)) :: l) st h := by
  show ev d y np (mx_st1 (some (.int x) :: l) 0 (.int (x + Int32.ofInt n))) st h = _
  simp only [mx_st1, mx_dw_s]
theorem es_stI1 {x : Int32} {b : Option Value} {l : mx_L} {a0 : Option Value} : evS (mx_stI 1) d y np (a0 :: b :: l) (.int x :: r) h = ev d y np (mx_dw a0 0 :: some (.int x) :: l) r h := by
  unfold evS mx_stI
  dsimp only
  rw [if_pos (by simp only [List.length_cons]; omega)]
  simp only [mx_st1, mx_dw_s]
theorem es_stL1 {x : Int64} {b : Option Value} {l : mx_L} {a0 : Option Value} {b2 : Option Value} : evS (mx_stL 1) d y np (a0 :: b :: b2 :: l) (.long x :: r) h = ev d y np (mx_dw a0 0 :: some (.long x) :: none :: l) r h := by
  unfold evS mx_stL
  dsimp only
  rw [if_pos (by simp only [List.length_cons]; omega)]
  simp only [mx_st2, mx_dw_s, List.set_cons_zero]
theorem es_stA1 {x : Nat} {b : Option Value} {l : mx_L} {a0 : Option Value} : evS (mx_stA 1) d y np (a0 :: b :: l) (.ref x :: r) h = ev d y np (mx_dw a0 0 :: some (.ref x) :: l) r h := by
  unfold evS mx_stA
  dsimp only
  rw [if_pos (by simp only [List.length_cons]; omega)]
  simp only [mx_st1, mx_dw_s]
theorem es_stN1 {b : Option Value} {l : mx_L} {a0 : Option Value} : evS (mx_stA 1) d y np (a0 :: b :: l) (.null :: r) h = ev d y np (mx_dw a0 0 :: some (.null) :: l) r h := by
  unfold evS mx_stA
  dsimp only
  rw [if_pos (by simp only [List.length_cons]; omega)]
  simp only [mx_st1, mx_dw_s]
theorem es_inc1 {x : Int32} {n : Int} {l : mx_L} {a0 : Option Value} : evS (mx_inc 1 n) d y np (a0 :: some (.int x) :: l) st h = ev d y np (mx_dw a0 0 :: some (.int (x + Int32.ofInt n)) :: l) st h := by
  show ev d y np (mx_st1 (a0 :: some (.int x) :: l) 1 (.int (x + Int32.ofInt n))) st h = _
  simp only [mx_st1, mx_dw_s]
theorem es_stI2 {x : Int32} {b : Option Value} {l : mx_L} {a0 a1 : Option Value} : evS (mx_stI 2) d y np (a0 :: a1 :: b :: l) (.int x :: r) h = ev d y np (a0 :: mx_dw a1 0 :: some (.int x) :: l) r h := by
  unfold evS mx_stI
  dsimp only
  rw [if_pos (by simp only [List.length_cons]; omega)]
  simp only [mx_st1, mx_dw_s]
theorem es_stL2 {x : Int64} {b : Option Value} {l : mx_L} {a0 a1 : Option Value} {b2 : Option Value} : evS (mx_stL 2) d y np (a0 :: a1 :: b :: b2 :: l) (.long x :: r) h = ev d y np (a0 :: mx_dw a1 0 :: some (.long x) :: none :: l) r h := by
  unfold evS mx_stL
  dsimp only
  rw [if_pos (by simp only [List.length_cons]; omega)]
  simp only [mx_st2, mx_dw_s, List.set_cons_zero]
theorem es_stA2 {x : Nat} {b : Option Value} {l : mx_L} {a0 a1 : Option Value} : evS (mx_stA 2) d y np (a0 :: a1 :: b :: l) (.ref x :: r) h = ev d y np (a0 :: mx_dw a1 0 :: some (.ref x) :: l) r h := by
  unfold evS mx_stA
  dsimp only
  rw [if_pos (by simp only [List.length_cons]; omega)]
  simp only [mx_st1, mx_dw_s]
theorem es_stN2 {b : Option Value} {l : mx_L} {a0 a1 : Option Value} : evS (mx_stA 2) d y np (a0 :: a1 :: b :: l) (.null :: r) h = ev d y np (a0 :: mx_dw a1 0 :: some (.null) :: l) r h := by
  unfold evS mx_stA
  dsimp only
  rw [if_pos (by simp only [List.length_cons]; omega)]
  simp only [mx_st1, mx_dw_s]
theorem es_inc2 {x : Int32} {n : Int} {l : mx_L} {a0 a1 : Option Value} : evS (mx_inc 2 n) d y np (a0 :: a1 :: some (.int x) :: l) st h = ev d y np (a0 :: mx_dw a1 0 :: some (.int (x + Int32.ofInt n)) :: l) st h := by
  show ev d y np (mx_st1 (a0 :: a1 :: some (.int x) :: l) 2 (.int (x + Int32.ofInt n))) st h = _
  simp only [mx_st1, mx_dw_s]
theorem es_stI3 {x : Int32} {b : Option Value} {l : mx_L} {a0 a1 a2 : Option Value} : evS (mx_stI 3) d y np (a0 :: a1 :: a2 :: b :: l) (.int x :: r) h = ev d y np (a0 :: a1 :: mx_dw a2 0 :: some (.int x) :: l) r h := by
  unfold evS mx_stI
  dsimp only
  rw [if_pos (by simp only [List.length_cons]; omega)]
  simp only [mx_st1, mx_dw_s]
theorem es_stL3 {x : Int64} {b : Option Value} {l : mx_L} {a0 a1 a2 : Option Value} {b2 : Option Value} : evS (mx_stL 3) d y np (a0 :: a1 :: a2 :: b :: b2 :: l) (.long x :: r) h = ev d y np (a0 :: a1 :: mx_dw a2 0 :: some (.long x) :: none :: l) r h := by
  unfold evS mx_stL
  dsimp only
  rw [if_pos (by simp only [List.length_cons]; omega)]
  simp only [mx_st2, mx_dw_s, List.set_cons_zero]
theorem es_stA3 {x : Nat} {b : Option Value} {l : mx_L} {a0 a1 a2 : Option Value} : evS (mx_stA 3) d y np (a0 :: a1 :: a2 :: b :: l) (.ref x :: r) h = ev d y np (a0 :: a1 :: mx_dw a2 0 :: some (.ref x) :: l) r h := by
  unfold evS mx_stA
  dsimp only
  rw [if_pos (by simp only [List.length_cons]; omega)]
  simp only [mx_st1, mx_dw_s]
theorem es_stN3 {b : Option Value} {l : mx_L} {a0 a1 a2 : Option Value} : evS (mx_stA 3) d y np (a0 :: a1 :: a2 :: b :: l) (.null :: r) h = ev d y np (a0 :: a1 :: mx_dw a2 0 :: some (.null) :: l) r h := by
  unfold evS mx_stA
  dsimp only
  rw [if_pos (by simp only [List.length_cons]; omega)]
  simp only [mx_st1, mx_dw_s]
theorem es_inc3 {x : Int32} {n : Int} {l : mx_L} {a0 a1 a2 : Option Value} : evS (mx_inc 3 n) d y np (a0 :: a1 :: a2 :: some (.int x) :: l) st h = ev d y np (a0 :: a1 :: mx_dw a2 0 :: some (.int (x + Int32.ofInt n)) :: l) st h := by
  show ev d y np (mx_st1 (a0 :: a1 :: a2 :: some (.int x) :: l) 3 (.int (x + Int32.ofInt n))) st h = _
  simp only [mx_st1, mx_dw_s]
theorem es_stI4 {x : Int32} {b : Option Value} {l : mx_L} {a0 a1 a2 a3 : Option Value} : evS (mx_stI 4) d y np (a0 :: a1 :: a2 :: a3 :: b :: l) (.int x :: r) h = ev d y np (a0 :: a1 :: a2 :: mx_dw a3 0 :: some (.int x) :: l) r h := by
  unfold evS mx_stI
  dsimp only
  rw [if_pos (by simp only [List.length_cons]; omega)]
  simp only [mx_st1, mx_dw_s]
theorem es_stL4 {x : Int64} {b : Option Value} {l : mx_L} {a0 a1 a2 a3 : Option Value} {b2 : Option Value} : evS (mx_stL 4) d y np (a0 :: a1 :: a2 :: a3 :: b :: b2 :: l) (.long x :: r) h = ev d y np (a0 :: a1 :: a2 :: mx_dw a3 0 :: some (.long x) :: none :: l) r h := by
  unfold evS mx_stL
  dsimp only
  rw [if_pos (by simp only [List.length_cons]; omega)]
  simp only [mx_st2, mx_dw_s, List.set_cons_zero]
theorem es_stA4 {x : Nat} {b : Option Value} {l : mx_L} {a0 a1 a2 a3 : Option Value} : evS (mx_stA 4) d y np (a0 :: a1 :: a2 :: a3 :: b :: l) (.ref x :: r) h = ev d y np (a0 :: a1 :: a2 :: mx_dw a3 0 :: some (.ref x) :: l) r h := by
  unfold evS mx_stA
  dsimp only
  rw [if_pos (by simp only [List.length_cons]; omega)]
  simp only [mx_st1, mx_dw_s]
theorem es_stN4 {b : Option Value} {l : mx_L} {a0 a1 a2 a3 : Option Value} : evS (mx_stA 4) d y np (a0 :: a1 :: a2 :: a3 :: b :: l) (.null :: r) h = ev d y np (a0 :: a1 :: a2 :: mx_dw a3 0 :: some (.null) :: l) r h := by
  unfold evS mx_stA
  dsimp only
  rw [if_pos (by simp only [List.length_cons]; omega)]
  simp only [mx_st1, mx_dw_s]
theorem es_inc4 {x : Int32} {n : Int} {l : mx_L} {a0 a1 a2 a3 : Option Value} : evS (mx_inc 4 n) d y np (a0 :: a1 :: a2 :: a3 :: some (.int x) :: l) st h = ev d y np (a0 :: a1 :: a2 :: mx_dw a3 0 :: some (.int (x + Int32.ofInt n)) :: l) st h := by
  show ev d y np (mx_st1 (a0 :: a1 :: a2 :: a3 :: some (.int x) :: l) 4 (.int (x + Int32.ofInt n))) st h = _
  simp only [mx_st1, mx_dw_s]
theorem es_stI5 {x : Int32} {b : Option Value} {l : mx_L} {a0 a1 a2 a3 a4 : Option Value} : evS (mx_stI 5) d y np (a0 :: a1 :: a2 :: a3 :: a4 :: b :: l) (.int x :: r) h = ev d y np (a0 :: a1 :: a2 :: a3 :: mx_dw a4 0 :: some (.int x) :: l) r h := by
  unfold evS mx_stI
  dsimp only
  rw [if_pos (by simp only [List.length_cons]; omega)]
  simp only [mx_st1, mx_dw_s]
theorem es_stL5 {x : Int64} {b : Option Value} {l : mx_L} {a0 a1 a2 a3 a4 : Option Value} {b2 : Option Value} : evS (mx_stL 5) d y np (a0 :: a1 :: a2 :: a3 :: a4 :: b :: b2 :: l) (.long x :: r) h = ev d y np (a0 :: a1 :: a2 :: a3 :: mx_dw a4 0 :: some (.long x) :: none :: l) r h := by
  unfold evS mx_stL
  dsimp only
  rw [if_pos (by simp only [List.length_cons]; omega)]
  simp only [mx_st2, mx_dw_s, List.set_cons_zero]
theorem es_stA5 {x : Nat} {b : Option Value} {l : mx_L} {a0 a1 a2 a3 a4 : Option Value} : evS (mx_stA 5) d y np (a0 :: a1 :: a2 :: a3 :: a4 :: b :: l) (.ref x :: r) h = ev d y np (a0 :: a1 :: a2 :: a3 :: mx_dw a4 0 :: some (.ref x) :: l) r h := by
  unfold evS mx_stA
  dsimp only
  rw [if_pos (by simp only [List.length_cons]; omega)]
  simp only [mx_st1, mx_dw_s]
theorem es_stN5 {b : Option Value} {l : mx_L} {a0 a1 a2 a3 a4 : Option Value} : evS (mx_stA 5) d y np (a0 :: a1 :: a2 :: a3 :: a4 :: b :: l) (.null :: r) h = ev d y np (a0 :: a1 :: a2 :: a3 :: mx_dw a4 0 :: some (.null) :: l) r h := by
  unfold evS mx_stA
  dsimp only
  rw [if_pos (by simp only [List.length_cons]; omega)]
  simp only [mx_st1, mx_dw_s]
theorem es_inc5 {x : Int32} {n : Int} {l : mx_L} {a0 a1 a2 a3 a4 : Option Value} : evS (mx_inc 5 n) d y np (a0 :: a1 :: a2 :: a3 :: a4 :: some (.int x) :: l) st h = ev d y np (a0 :: a1 :: a2 :: a3 :: mx_dw a4 0 :: some (.int (x + Int32.ofInt n)) :: l) st h := by
  show ev d y np (mx_st1 (a0 :: a1 :: a2 :: a3 :: a4 :: some (.int x) :: l) 5 (.int (x + Int32.ofInt n))) st h = _
  simp only [mx_st1, mx_dw_s]
theorem es_stI6 {x : Int32} {b : Option Value} {l : mx_L} {a0 a1 a2 a3 a4 a5 : Option Value} : evS (mx_stI 6) d y np (a0 :: a1 :: a2 :: a3 :: a4 :: a5 :: b :: l) (.int x :: r) h = ev d y np (a0 :: a1 :: a2 :: a3 :: a4 :: mx_dw a5 0 :: some (.int x) :: l) r h := by
  unfold evS mx_stI
  dsimp only
  rw [if_pos (by simp only [List.length_cons]; omega)]
  simp only [mx_st1, mx_dw_s]
theorem es_stL6 {x : Int64} {b : Option Value} {l : mx_L} {a0 a1 a2 a3 a4 a5 : Option Value} {b2 : Option Value} : evS (mx_stL 6) d y np (a0 :: a1 :: a2 :: a3 :: a4 :: a5 :: b :: b2 :: l) (.long x :: r) h = ev d y np (a0 :: a1 :: a2 :: a3 :: a4 :: mx_dw a5 0 :: some (.long x) :: none :: l) r h := by
  unfold evS mx_stL
  dsimp only
  rw [if_pos (by simp only [List.length_cons]; omega)]
  simp only [mx_st2, mx_dw_s, List.set_cons_zero]
theorem es_stA6 {x : Nat} {b : Option Value} {l : mx_L} {a0 a1 a2 a3 a4 a5 : Option Value} : evS (mx_stA 6) d y np (a0 :: a1 :: a2 :: a3 :: a4 :: a5 :: b :: l) (.ref x :: r) h = ev d y np (a0 :: a1 :: a2 :: a3 :: a4 :: mx_dw a5 0 :: some (.ref x) :: l) r h := by
  unfold evS mx_stA
  dsimp only
  rw [if_pos (by simp only [List.length_cons]; omega)]
  simp only [mx_st1, mx_dw_s]
theorem es_stN6 {b : Option Value} {l : mx_L} {a0 a1 a2 a3 a4 a5 : Option Value} : evS (mx_stA 6) d y np (a0 :: a1 :: a2 :: a3 :: a4 :: a5 :: b :: l) (.null :: r) h = ev d y np (a0 :: a1 :: a2 :: a3 :: a4 :: mx_dw a5 0 :: some (.null) :: l) r h := by
  unfold evS mx_stA
  dsimp only
  rw [if_pos (by simp only [List.length_cons]; omega)]
  simp only [mx_st1, mx_dw_s]
theorem es_inc6 {x : Int32} {n : Int} {l : mx_L} {a0 a1 a2 a3 a4 a5 : Option Value} : evS (mx_inc 6 n) d y np (a0 :: a1 :: a2 :: a3 :: a4 :: a5 :: some (.int x) :: l) st h = ev d y np (a0 :: a1 :: a2 :: a3 :: a4 :: mx_dw a5 0 :: some (.int (x + Int32.ofInt n)) :: l) st h := by
  show ev d y np (mx_st1 (a0 :: a1 :: a2 :: a3 :: a4 :: a5 :: some (.int x) :: l) 6 (.int (x + Int32.ofInt n))) st h = _
  simp only [mx_st1, mx_dw_s]
theorem es_stI7 {x : Int32} {b : Option Value} {l : mx_L} {a0 a1 a2 a3 a4 a5 a6 : Option Value} : evS (mx_stI 7) d y np (a0 :: a1 :: a2 :: a3 :: a4 :: a5 :: a6 :: b :: l) (.int x :: r) h = ev d y np (a0 :: a1 :: a2 :: a3 :: a4 :: a5 :: mx_dw a6 0 :: some (.int x) :: l) r h := by
  unfold evS mx_stI
  dsimp only
  rw [if_pos (by simp only [List.length_cons]; omega)]
  simp only [mx_st1, mx_dw_s]
theorem es_stL7 {x : Int64} {b : Option Value} {l : mx_L} {a0 a1 a2 a3 a4 a5 a6 : Option Value} {b2 : Option Value} : evS (mx_stL 7) d y np (a0 :: a1 :: a2 :: a3 :: a4 :: a5 :: a6 :: b :: b2 :: l) (.long x :: r) h = ev d y np (a0 :: a1 :: a2 :: a3 :: a4 :: a5 :: mx_dw a6 0 :: some (.long x) :: none :: l) r h := by
  unfold evS mx_stL
  dsimp only
  rw [if_pos (by simp only [List.length_cons]; omega)]
  simp only [mx_st2, mx_dw_s, List.set_cons_zero]
theorem es_stA7 {x : Nat} {b : Option Value} {l : mx_L} {a0 a1 a2 a3 a4 a5 a6 : Option Value} : evS (mx_stA 7) d y np (a0 :: a1 :: a2 :: a3 :: a4 :: a5 :: a6 :: b :: l) (.ref x :: r) h = ev d y np (a0 :: a1 :: a2 :: a3 :: a4 :: a5 :: mx_dw a6 0 :: some (.ref x) :: l) r h := by
  unfold evS mx_stA
  dsimp only
  rw [if_pos (by simp only [List.length_cons]; omega)]
  simp only [mx_st1, mx_dw_s]
theorem es_stN7 {b : Option Value} {l : mx_L} {a0 a1 a2 a3 a4 a5 a6 : Option Value} : evS (mx_stA 7) d y np (a0 :: a1 :: a2 :: a3 :: a4 :: a5 :: a6 :: b :: l) (.null :: r) h = ev d y np (a0 :: a1 :: a2 :: a3 :: a4 :: a5 :: mx_dw a6 0 :: some (.null) :: l) r h := by
  unfold evS mx_stA
  dsimp only
  rw [if_pos (by simp only [List.length_cons]; omega)]
  simp only [mx_st1, mx_dw_s]
theorem es_inc7 {x : Int32} {n : Int} {l : mx_L} {a0 a1 a2 a3 a4 a5 a6 : Option Value} : evS (mx_inc 7 n) d y np (a0 :: a1 :: a2 :: a3 :: a4 :: a5 :: a6 :: some (.int x) :: l) st h = ev d y np (a0 :: a1 :: a2 :: a3 :: a4 :: a5 :: mx_dw a6 0 :: some (.int (x + Int32.ofInt n)) :: l) st h := by
  show ev d y np (mx_st1 (a0 :: a1 :: a2 :: a3 :: a4 :: a5 :: a6 :: some (.int x) :: l) 7 (.int (x + Int32.ofInt n))) st h = _
  simp only [mx_st1, mx_dw_s]
theorem es_stI8 {x : Int32} {b : Option Value} {l : mx_L} {a0 a1 a2 a3 a4 a5 a6 a7 : Option Value} : evS (mx_stI 8) d y np (a0 :: a1 :: a2 :: a3 :: a4 :: a5 :: a6 :: a7 :: b :: l) (.int x :: r) h = ev d y np (a0 :: a1 :: a2 :: a3 :: a4 :: a5 :: a6 :: mx_dw a7 0 :: some (.int x) :: l) r h := by
  unfold evS mx_stI
  dsimp only
  rw [if_pos (by simp only [List.length_cons]; omega)]
  simp only [mx_st1, mx_dw_s]
theorem es_stL8 {x : Int64} {b : Option Value} {l : mx_L} {a0 a1 a2 a3 a4 a5 a6 a7 : Option Value} {b2 : Option Value} : evS (mx_stL 8) d y np (a0 :: a1 :: a2 :: a3 :: a4 :: a5 :: a6 :: a7 :: b :: b2 :: l) (.long x :: r) h = ev d y np (a0 :: a1 :: a2 :: a3 :: a4 :: a5 :: a6 :: mx_dw a7 0 :: some (.long x) :: none :: l) r h := by
  unfold evS mx_stL
  dsimp only
  rw [if_pos (by simp only [List.length_cons]; omega)]
  simp only [mx_st2, mx_dw_s, List.set_cons_zero]
theorem es_stA8 {x : Nat} {b : Option Value} {l : mx_L} {a0 a1 a2 a3 a4 a5 a6 a7 : Option Value} : evS (mx_stA 8) d y np (a0 :: a1 :: a2 :: a3 :: a4 :: a5 :: a6 :: a7 :: b :: l) (.ref x :: r) h = ev d y np (a0 :: a1 :: a2 :: a3 :: a4 :: a5 :: a6 :: mx_dw a7 0 :: some (.ref x) :: l) r h := by
  unfold evS mx_stA
  dsimp only
  rw [if_pos (by simp only [List.length_cons]; omega)]
  simp only [mx_st1, mx_dw_s]
theorem es_stN8 {b : Option Value} {l : mx_L} {a0 a1 a2 a3 a4 a5 a6 a7 : Option Value} : evS (mx_stA 8) d y np (a0 :: a1 :: a2 :: a3 :: a4 :: a5 :: a6 :: a7 :: b :: l) (.null :: r) h = ev d y np (a0 :: a1 :: a2 :: a3 :: a4 :: a5 :: a6 :: mx_dw a7 0 :: some (.null) :: l) r h := by
  unfold evS mx_stA
  dsimp only
  rw [if_pos (by simp only [List.length_cons]; omega)]
  simp only [mx_st1, mx_dw_s]
theorem es_inc8 {x : Int32} {n : Int} {l : mx_L} {a0 a1 a2 a3 a4 a5 a6 a7 : Option Value} : evS (mx_inc 8 n) d y np (a0 :: a1 :: a2 :: a3 :: a4 :: a5 :: a6 :: a7 :: some (.int x) :: l) st h = ev d y np (a0 :: a1 :: a2 :: a3 :: a4 :: a5 :: a6 :: mx_dw a7 0 :: some (.int (x + Int32.ofInt n)) :: l) st h := by
  show ev d y np (mx_st1 (a0 :: a1 :: a2 :: a3 :: a4 :: a5 :: a6 :: a7 :: some (.int x) :: l) 8 (.int (x + Int32.ofInt n))) st h = _
  simp only [mx_st1, mx_dw_s]
theorem es_stI9 {x : Int32} {b : Option Value} {l : mx_L} {a0 a1 a2 a3 a4 a5 a6 a7 a8 : Option Value} : evS (mx_stI 9) d y np (a0 :: a1 :: a2 :: a3 :: a4 :: a5 :: a6 :: a7 :: a8 :: b :: l) (.int x :: r) h = ev d y np (a0 :: a1 :: a2 :: a3 :: a4 :: a5 :: a6 :: a7 :: mx_dw a8 0 :: some (.int x) :: l) r h := by
  unfold evS mx_stI
  dsimp only
  rw [if_pos (by simp only [List.length_cons]; omega)]
  simp only [mx_st1, mx_dw_s]
theorem es_stL9 {x : Int64} {b : Option Value} {l : mx_L} {a0 a1 a2 a3 a4 a5 a6 a7 a8 : Option Value} {b2 : Option Value} : evS (mx_stL 9) d y np (a0 :: a1 :: a2 :: a3 :: a4 :: a5 :: a6 :: a7 :: a8 :: b :: b2 :: l) (.long x :: r) h = ev d y np (a0 :: a1 :: a2 :: a3 :: a4 :: a5 :: a6 :: a7 :: mx_dw a8 0 :: some (.long x) :: none :: l) r h := by
  unfold evS mx_stL
  dsimp only
  rw [if_pos (by simp only [List.length_cons]; omega)]
  simp only [mx_st2, mx_dw_s, List.set_cons_zero]
theorem es_stA9 {x : Nat} {b : Option Value} {l : mx_L} {a0 a1 a2 a3 a4 a5 a6 a7 a8 : Option Value} : evS (mx_stA 9) d y np (a0 :: a1 :: a2 :: a3 :: a4 :: a5 :: a6 :: a7 :: a8 :: b :: l) (.ref x :: r) h = ev d y np (a0 :: a1 :: a2 :: a3 :: a4 :: a5 :: a6 :: a7 :: mx_dw a8 0 :: some (.ref x) :: l) r h := by
  unfold evS mx_stA
  dsimp only
  rw [if_pos (by simp only [List.length_cons]; omega)]
  simp only [mx_st1, mx_dw_s]
theorem es_stN9 {b : Option Value} {l : mx_L} {a0 a1 a2 a3 a4 a5 a6 a7 a8 : Option Value} : evS (mx_stA 9) d y np (a0 :: a1 :: a2 :: a3 :: a4 :: a5 :: a6 :: a7 :: a8 :: b :: l) (.null :: r) h = ev d y np (a0 :: a1 :: a2 :: a3 :: a4 :: a5 :: a6 :: a7 :: mx_dw a8 0 :: some (.null) :: l) r h := by
  unfold evS mx_stA
  dsimp only
  rw [if_pos (by simp only [List.length_cons]; omega)]
  simp only [mx_st1, mx_dw_s]
theorem es_inc9 {x : Int32} {n : Int} {l : mx_L} {a0 a1 a2 a3 a4 a5 a6 a7 a8 : Option Value} : evS (mx_inc 9 n) d y np (a0 :: a1 :: a2 :: a3 :: a4 :: a5 :: a6 :: a7 :: a8 :: some (.int x) :: l) st h = ev d y np (a0 :: a1 :: a2 :: a3 :: a4 :: a5 :: a6 :: a7 :: mx_dw a8 0 :: some (.int (x + Int32.ofInt n)) :: l) st h := by
  show ev d y np (mx_st1 (a0 :: a1 :: a2 :: a3 :: a4 :: a5 :: a6 :: a7 :: a8 :: some (.int x) :: l) 9 (.int (x + Int32.ofInt n))) st h = _
  simp only [mx_st1, mx_dw_s]
theorem es_ldF0 {x : UInt32} {l : mx_L} : evS (mx_ldA 0) d y np (some (.float x) :: l) st h = ev d y np (some (.float x) :: l) (.float x :: st) h := rfl
theorem es_stF0 {x : UInt32} {b : Option Value} {l : mx_L} : evS (mx_stA 0) d y np (b :: l) (.float x :: r) h = ev d y np (some (.float x) :: l) r h := by
  unfold evS mx_stA
  dsimp only
  rw [if_pos (by simp only [List.length_cons]; omega)]
  simp only [mx_st1, mx_dw_s]
theorem es_ldF1 {x : UInt32} {l : mx_L} {a0 : Option Value} : evS (mx_ldA 1) d y np (a0 :: some (.float x) :: l) st h = ev d y np (a0 :: some (.float x) :: l) (.float x :: st) h := rfl
theorem es_stF1 {x : UInt32} {b : Option Value} {l : mx_L} {a0 : Option Value} : evS (mx_stA 1) d y np (a0 :: b :: l) (.float x :: r) h = ev d y np (mx_dw a0 0 :: some (.float x) :: l) r h := by
  unfold evS mx_stA
  dsimp only
  rw [if_pos (by simp only [List.length_cons]; omega)]
  simp only [mx_st1, mx_dw_s]
theorem es_ldF2 {x : UInt32} {l : mx_L} {a0 a1 : Option Value} : evS (mx_ldA 2) d y np (a0 :: a1 :: some (.float x) :: l) st h = ev d y np (a0 :: a1 :: some (.float x) :: l) (.float x :: st) h := rfl
theorem es_stF2 {x : UInt32} {b : Option Value} {l : mx_L} {a0 a1 : Option Value} : evS (mx_stA 2) d y np (a0 :: a1 :: b :: l) (.float x :: r) h = ev d y np (a0 :: mx_dw a1 0 :: some (.float x) :: l) r h := by
  unfold evS mx_stA
  dsimp only
  rw [if_pos (by simp only [List.length_cons]; omega)]
  simp only [mx_st1, mx_dw_s]
theorem es_ldF3 {x : UInt32} {l : mx_L} {a0 a1 a2 : Option Value} : evS (mx_ldA 3) d y np (a0 :: a1 :: a2 :: some (.float x) :: l) st h = ev d y np (a0 :: a1 :: a2 :: some (.float x) :: l) (.float x :: st) h := rfl
theorem es_stF3 {x : UInt32} {b : Option Value} {l : mx_L} {a0 a1 a2 : Option Value} : evS (mx_stA 3) d y np (a0 :: a1 :: a2 :: b :: l) (.float x :: r) h = ev d y np (a0 :: a1 :: mx_dw a2 0 :: some (.float x) :: l) r h := by
  unfold evS mx_stA
  dsimp only
  rw [if_pos (by simp only [List.length_cons]; omega)]
  simp only [mx_st1, mx_dw_s]
theorem es_ldF4 {x : UInt32} {l : mx_L} {a0 a1 a2 a3 : Option Value} : evS (mx_ldA 4) d y np (a0 :: a1 :: a2 :: a3 :: some (.float x) :: l) st h = ev d y np (a0 :: a1 :: a2 :: a3 :: some (.float x) :: l) (.float x :: st) h := rfl
theorem es_stF4 {x : UInt32} {b : Option Value} {l : mx_L} {a0 a1 a2 a3 : Option Value} : evS (mx_stA 4) d y np (a0 :: a1 :: a2 :: a3 :: b :: l) (.float x :: r) h = ev d y np (a0 :: a1 :: a2 :: mx_dw a3 0 :: some (.float x) :: l) r h := by
  unfold evS mx_stA
  dsimp only
  rw [if_pos (by simp only [List.length_cons]; omega)]
  simp only [mx_st1, mx_dw_s]
theorem es_ldF5 {x : UInt32} {l : mx_L} {a0 a1 a2 a3 a4 : Option Value} : evS (mx_ldA 5) d y np (a0 :: a1 :: a2 :: a3 :: a4 :: some (.float x) :: l) st h = ev d y np (a0 :: a1 :: a2 :: a3 :: a4 :: some (.float x) :: l) (.float x :: st) h := rfl
theorem es_stF5 {x : UInt32} {b : Option Value} {l : mx_L} {a0 a1 a2 a3 a4 : Option Value} : evS (mx_stA 5) d y np (a0 :: a1 :: a2 :: a3 :: a4 :: b :: l) (.float x :: r) h = ev d y np (a0 :: a1 :: a2 :: a3 :: mx_dw a4 0 :: some (.float x) :: l) r h := by
  unfold evS mx_stA
  dsimp only
  rw [if_pos (by simp only [List.length_cons]; omega)]
  simp only [mx_st1, mx_dw_s]
theorem es_ldF6 {x : UInt32} {l : mx_L} {a0 a1 a2 a3 a4 a5 : Option Value} : evS (mx_ldA 6) d y np (a0 :: a1 :: a2 :: a3 :: a4 :: a5 :: some (.float x) :: l) st h = ev d y np (a0 :: a1 :: a2 :: a3 :: a4 :: a5 :: some (.float x) :: l) (.float x :: st) h := rfl
theorem es_stF6 {x : UInt32} {b : Option Value} {l : mx_L} {a0 a1 a2 a3 a4 a5 : Option Value} : evS (mx_stA 6) d y np (a0 :: a1 :: a2 :: a3 :: a4 :: a5 :: b :: l) (.float x :: r) h = ev d y np (a0 :: a1 :: a2 :: a3 :: a4 :: mx_dw a5 0 :: some (.float x) :: l) r h := by
  unfold evS mx_stA
  dsimp only
  rw [if_pos (by simp only [List.length_cons]; omega)]
  simp only [mx_st1, mx_dw_s]
theorem es_ldF7 {x : UInt32} {l : mx_L} {a0 a1 a2 a3 a4 a5 a6 : Option Value} : evS (mx_ldA 7) d y np (a0 :: a1 :: a2 :: a3 :: a4 :: a5 :: a6 :: some (.float x) :: l) st h = ev d y np (a0 :: a1 :: a2 :: a3 :: a4 :: a5 :: a6 :: some (.float x) :: l) (.float x :: st) h := rfl
theorem es_stF7 {x : UInt32} {b : Option Value} {l : mx_L} {a0 a1 a2 a3 a4 a5 a6 : Option Value} : evS (mx_stA 7) d y np (a0 :: a1 :: a2 :: a3 :: a4 :: a5 :: a6 :: b :: l) (.float x :: r) h = ev d y np (a0 :: a1 :: a2 :: a3 :: a4 :: a5 :: mx_dw a6 0 :: some (.float x) :: l) r h := by
  unfold evS mx_stA
  dsimp only
  rw [if_pos (by simp only [List.length_cons]; omega)]
  simp only [mx_st1, mx_dw_s]
theorem es_ldF8 {x : UInt32} {l : mx_L} {a0 a1 a2 a3 a4 a5 a6 a7 : Option Value} : evS (mx_ldA 8) d y np (a0 :: a1 :: a2 :: a3 :: a4 :: a5 :: a6 :: a7 :: some (.float x) :: l) st h = ev d y np (a0 :: a1 :: a2 :: a3 :: a4 :: a5 :: a6 :: a7 :: some (.float x) :: l) (.float x :: st) h := rfl
theorem es_stF8 {x : UInt32} {b : Option Value} {l : mx_L} {a0 a1 a2 a3 a4 a5 a6 a7 : Option Value} : evS (mx_stA 8) d y np (a0 :: a1 :: a2 :: a3 :: a4 :: a5 :: a6 :: a7 :: b :: l) (.float x :: r) h = ev d y np (a0 :: a1 :: a2 :: a3 :: a4 :: a5 :: a6 :: mx_dw a7 0 :: some (.float x) :: l) r h := by
  unfold evS mx_stA
  dsimp only
  rw [if_pos (by simp only [List.length_cons]; omega)]
  simp only [mx_st1, mx_dw_s]
theorem es_ldF9 {x : UInt32} {l : mx_L} {a0 a1 a2 a3 a4 a5 a6 a7 a8 : Option Value} : evS (mx_ldA 9) d y np (a0 :: a1 :: a2 :: a3 :: a4 :: a5 :: a6 :: a7 :: a8 :: some (.float x) :: l) st h = ev d y np (a0 :: a1 :: a2 :: a3 :: a4 :: a5 :: a6 :: a7 :: a8 :: some (.float x) :: l) (.float x :: st) h := rfl
theorem es_stF9 {x : UInt32} {b : Option Value} {l : mx_L} {a0 a1 a2 a3 a4 a5 a6 a7 a8 : Option Value} : evS (mx_stA 9) d y np (a0 :: a1 :: a2 :: a3 :: a4 :: a5 :: a6 :: a7 :: a8 :: b :: l) (.float x :: r) h = ev d y np (a0 :: a1 :: a2 :: a3 :: a4 :: a5 :: a6 :: a7 :: mx_dw a8 0 :: some (.float x) :: l) r h := by
  unfold evS mx_stA
  dsimp only
  rw [if_pos (by simp only [List.length_cons]; omega)]
  simp only [mx_st1, mx_dw_s]
theorem mx_dw_f {x : UInt32} : mx_dw (some (.float x)) 0 = some (.float x) := rfl
/-! fields -/
noncomputable def evG2 (d y np : Nat) (lo : mx_L) (r : List Value) (h : mx_H) (F : Nat → Value) : Option Nat → Option mx_R
  | some k => ev d y np lo (F k :: r) h
  | none => none
noncomputable def evG1 (d y np o i : Nat) (lo : mx_L) (r : List Value) (h : mx_H) : Option (Nat × (Nat → Value)) → Option mx_R
  | some (c, F) => evG2 d y np lo r h F (mx_fld o i c)
  | none => none
theorem es_gf {o i p : Nat} : evS (mx_gf o i) d y np lo (.ref p :: r) h = evG1 d y np o i lo r h (mx_obj h p) := by
  unfold evS mx_gf evG1 evG2
  dsimp only
  rcases mx_obj h p with _ | ⟨c, F⟩
  · rfl
  · dsimp only
    cases mx_fld o i c <;> rfl
theorem eg1 {o i c : Nat} {F : Nat → Value} : evG1 d y np o i lo r h (some (c, F)) = evG2 d y np lo r h F (mx_fld o i c) := rfl
theorem eg2 {k : Nat} {F : Nat → Value} : evG2 d y np lo r h F (some k) = ev d y np lo (F k :: r) h := rfl
def mx_pfd (o i c : Nat) (ini : Bool) (v : Value) : Option Nat := match mx_fld o i c with
  | some k => if mx_fit (mx_fty c k) v && (!mx_fin c k || (ini && mx_dcl c k == mx_cls o)) then some k else none
  | none => none
noncomputable def evP2 (d y np p c : Nat) (lo : mx_L) (r : List Value) (h : mx_H) (F : Nat → Value) (v : Value) : Option Nat → Option mx_R
  | some k => ev d y np lo r (mx_set h p (.inr (c, va_up F k v)))
  | none => none
noncomputable def evP1 (d y np o i p : Nat) (ini : Bool) (lo : mx_L) (r : List Value) (h : mx_H) (v : Value) : Option (Nat × (Nat → Value)) → Option mx_R
  | some (c, F) => evP2 d y np p c lo r h F v (mx_pfd o i c ini v)
  | none => none
theorem es_pf {o i p : Nat} {ini : Bool} {v : Value} : evS (mx_pf o i ini) d y np lo (v :: .ref p :: r) h = evP1 d y np o i p ini lo r h v (mx_obj h p) := by
  unfold evS mx_pf evP1 evP2 mx_pfd
  dsimp only
  rcases mx_obj h p with _ | ⟨c, F⟩
  · rfl
  · dsimp only
    cases mx_fld o i c with
    | none => rfl
    | some k =>
      dsimp only
      by_cases g : (mx_fit (mx_fty c k) v && (!mx_fin c k || (ini && mx_dcl c k == mx_cls o))) = true
      · rw [if_pos g, if_pos g]
      · rw [if_neg g, if_neg g]
theorem ep1 {o i p c : Nat} {ini : Bool} {v : Value} {F : Nat → Value} : evP1 d y np o i p ini lo r h v (some (c, F)) = evP2 d y np p c lo r h F v (mx_pfd o i c ini v) := rfl
theorem ep2 {p c k : Nat} {v : Value} {F : Nat → Value} : evP2 d y np p c lo r h F v (some k) = ev d y np lo r (mx_set h p (.inr (c, va_up F k v))) := rfl
/-! arrays -/
noncomputable def evA (t0 : Nat) (d y np : Nat) (lo : mx_L) (r : List Value) (h : mx_H) (i : Int32) : Option (Nat × Nat × mx_A) → Option mx_R
  | some (t, n, .inl f) => if t = t0 then (if mx_inb i n = true then ev d y np lo (.int (f i.toNatClampNeg) :: r) h else none) else none
  | _ => none
theorem ea_row {t0 n : Nat} {i : Int32} {f : Nat → Int32} : evA t0 d y np lo r h i (some (t0, n, .inl f)) = if mx_inb i n = true then ev d y np lo (.int (f i.toNatClampNeg) :: r) h else none := if_pos rfl
theorem mx_if_some {α β : Type} {c : Prop} [Decidable c] {a : α} {f : Option α → β} : f (if c then some a else none) = if c then f (some a) else f none := by split <;> rfl
theorem ei_scr {i : Int32} : evI d y pc np lo (.int i :: .float 1000 :: r) h .iaload = if mx_inb i h.1.1.1 = true then ev d y np lo (.int (h.1.1.2 i.toNatClampNeg) :: r) h else none := by
  unfold evI
  show evN (match (if (1000 : UInt32) = 1000 ∧ mx_inb i h.1.1.1 = true then some (lo, .int (h.1.1.2 i.toNatClampNeg) :: r, h) else none : Option mx_S) with | some S => .inr (.inl (d, y, np, S.1, S.2.1, S.2.2)) | none => .inl none) = _
  by_cases g : mx_inb i h.1.1.1 = true
  · rw [if_pos g, if_pos ⟨rfl, g⟩]; rfl
  · rw [if_neg g, if_neg (fun z => g z.2)]; rfl
theorem ei_iald {i : Int32} {p : Nat} : evI d y pc np lo (.int i :: .ref p :: r) h .iaload = evA 0 d y np lo r h i (mx_arr h p) := by
  unfold evI
  show evN (match mx_ald (lo, .int i :: .ref p :: r, h) with | some S => .inr (.inl (d, y, np, S.1, S.2.1, S.2.2)) | none => .inl none) = _
  unfold mx_ald evA
  dsimp only
  rcases mx_arr h p with _ | ⟨_ | t, n, f | f | f⟩ <;> first | rfl | exact evN_ite
noncomputable def evB (d y np : Nat) (lo : mx_L) (r : List Value) (h : mx_H) (i : Int32) : Option (Nat × Nat × mx_A) → Option mx_R
  | some (1, n, .inl f) => if mx_inb i n = true then ev d y np lo (.int (f i.toNatClampNeg) :: r) h else none
  | some (4, n, .inl f) => if mx_inb i n = true then ev d y np lo (.int (f i.toNatClampNeg) :: r) h else none
  | _ => none
theorem eb_1 {n : Nat} {i : Int32} {f : Nat → Int32} : evB d y np lo r h i (some (1, n, .inl f)) = if mx_inb i n = true then ev d y np lo (.int (f i.toNatClampNeg) :: r) h else none := rfl
theorem eb_4 {n : Nat} {i : Int32} {f : Nat → Int32} : evB d y np lo r h i (some (4, n, .inl f)) = if mx_inb i n = true then ev d y np lo (.int (f i.toNatClampNeg) :: r) h else none := rfl
theorem ei_bald {i : Int32} {p : Nat} : evI d y pc np lo (.int i :: .ref p :: r) h .baload = evB d y np lo r h i (mx_arr h p) := by
  unfold evI
  show evN (match mx_bld (lo, .int i :: .ref p :: r, h) with | some S => .inr (.inl (d, y, np, S.1, S.2.1, S.2.2)) | none => .inl none) = _
  unfold mx_bld evB
  dsimp only
  rcases mx_arr h p with _ | ⟨_ | _ | _ | _ | _ | t, n, f | f | f⟩ <;> first | rfl | exact evN_ite
noncomputable def evC (d y np : Nat) (lo : mx_L) (r : List Value) (h : mx_H) (i : Int32) : Option (Nat × Nat × mx_A) → Option mx_R
  | some (2, n, .inl f) => if mx_inb i n = true then ev d y np lo (.int (f i.toNatClampNeg) :: r) h else none
  | _ => none
theorem ec_2 {n : Nat} {i : Int32} {f : Nat → Int32} : evC d y np lo r h i (some (2, n, .inl f)) = if mx_inb i n = true then ev d y np lo (.int (f i.toNatClampNeg) :: r) h else none := rfl
theorem ei_sald {i : Int32} {p : Nat} : evI d y pc np lo (.int i :: .ref p :: r) h .saload = evC d y np lo r h i (mx_arr h p) := by
  unfold evI
  show evN (match mx_sld (lo, .int i :: .ref p :: r, h) with | some S => .inr (.inl (d, y, np, S.1, S.2.1, S.2.2)) | none => .inl none) = _
  unfold mx_sld evC
  dsimp only
  rcases mx_arr h p with _ | ⟨_ | _ | _ | _ | _ | t, n, f | f | f⟩ <;> first | rfl | exact evN_ite
noncomputable def evD (d y np : Nat) (lo : mx_L) (r : List Value) (h : mx_H) (i : Int32) : Option (Nat × Nat × mx_A) → Option mx_R
  | some (3, n, .inr (.inl f)) => if mx_inb i n = true then ev d y np lo (.long (f i.toNatClampNeg) :: r) h else none
  | _ => none
theorem ed_3 {n : Nat} {i : Int32} {f : Nat → Int64} : evD d y np lo r h i (some (3, n, .inr (.inl f))) = if mx_inb i n = true then ev d y np lo (.long (f i.toNatClampNeg) :: r) h else none := rfl
theorem ei_lald {i : Int32} {p : Nat} : evI d y pc np lo (.int i :: .ref p :: r) h .laload = evD d y np lo r h i (mx_arr h p) := by
  unfold evI
  show evN (match mx_lld (lo, .int i :: .ref p :: r, h) with | some S => .inr (.inl (d, y, np, S.1, S.2.1, S.2.2)) | none => .inl none) = _
  unfold mx_lld evD
  dsimp only
  rcases mx_arr h p with _ | ⟨_ | _ | _ | _ | _ | t, n, f | f | f⟩ <;> first | rfl | exact evN_ite
noncomputable def evQ (d y np : Nat) (lo : mx_L) (r : List Value) (h : mx_H) (i : Int32) : Option (Nat × Nat × mx_A) → Option mx_R
  | some (t, n, .inr (.inr f)) => if 5 ≤ t ∧ t < 11 ∧ mx_inb i n = true then ev d y np lo (mx_rv t (f i.toNatClampNeg) :: r) h else none
  | _ => none
theorem eq_row {t n : Nat} {i : Int32} {f : Nat → Option Nat} : evQ d y np lo r h i (some (t, n, .inr (.inr f))) = if 5 ≤ t ∧ t < 11 ∧ mx_inb i n = true then ev d y np lo (mx_rv t (f i.toNatClampNeg) :: r) h else none := rfl
theorem ei_aald {i : Int32} {p : Nat} : evI d y pc np lo (.int i :: .ref p :: r) h .aaload = evQ d y np lo r h i (mx_arr h p) := by
  unfold evI
  show evN (match mx_qld (lo, .int i :: .ref p :: r, h) with | some S => .inr (.inl (d, y, np, S.1, S.2.1, S.2.2)) | none => .inl none) = _
  unfold mx_qld evQ
  dsimp only
  rcases mx_arr h p with _ | ⟨t, n, f | f | f⟩ <;> first | rfl | exact evN_ite
/-- stores of ints into int, byte, boolean, short arrays -/
noncomputable def evW (t0 : Nat) (nar : Int32 → Int32) (d y np p : Nat) (lo : mx_L) (r : List Value) (h : mx_H) (i x : Int32) : Option (Nat × Nat × mx_A) → Option mx_R
  | some (t, n, .inl f) => if t = t0 ∧ mx_inb i n = true then ev d y np lo r (mx_set h p (.inl (t, n, .inl (upd f i.toNatClampNeg (nar x))))) else none
  | _ => none
theorem ew_row {t0 n p : Nat} {nar : Int32 → Int32} {i x : Int32} {f : Nat → Int32} : evW t0 nar d y np p lo r h i x (some (t0, n, .inl f)) = if mx_inb i n = true then ev d y np lo r (mx_set h p (.inl (t0, n, .inl (upd f i.toNatClampNeg (nar x))))) else none := by
  show (if t0 = t0 ∧ mx_inb i n = true then ev d y np lo r (mx_set h p (.inl (t0, n, .inl (upd f i.toNatClampNeg (nar x))))) else none) = _
  by_cases g : mx_inb i n = true
  · rw [if_pos ⟨rfl, g⟩, if_pos g]
  · rw [if_neg (fun z => g z.2), if_neg g]
theorem mx_ast_ev {t0 p : Nat} {nar : Int32 → Int32} {i x : Int32} : evS (mx_ast t0 nar) d y np lo (.int x :: .int i :: .ref p :: r) h = evW t0 nar d y np p lo r h i x (mx_arr h p) := by
  unfold evS mx_ast evW
  dsimp only
  rcases mx_arr h p with _ | ⟨t, n, f | f | f⟩ <;> first | rfl | exact evS_ite
theorem ei_iast {i x : Int32} {p : Nat} : evI d y pc np lo (.int x :: .int i :: .ref p :: r) h .iastore = evW 0 (fun x => x) d y np p lo r h i x (mx_arr h p) := by
  rw [← mx_ast_ev]
  unfold evI evS
  show evN (match mx_ast 0 (fun x => x) (lo, .int x :: .int i :: .ref p :: r, h) with | some S => .inr (.inl (d, y, np, S.1, S.2.1, S.2.2)) | none => .inl none) = _
  cases mx_ast 0 (fun x => x) (lo, .int x :: .int i :: .ref p :: r, h) <;> rfl
theorem ei_sast {i x : Int32} {p : Nat} : evI d y pc np lo (.int x :: .int i :: .ref p :: r) h .sastore = evW 2 (fun x => x.toInt16.toInt32) d y np p lo r h i x (mx_arr h p) := by
  rw [← mx_ast_ev]
  unfold evI evS
  show evN (match mx_ast 2 (fun x => x.toInt16.toInt32) (lo, .int x :: .int i :: .ref p :: r, h) with | some S => .inr (.inl (d, y, np, S.1, S.2.1, S.2.2)) | none => .inl none) = _
  cases mx_ast 2 (fun x => x.toInt16.toInt32) (lo, .int x :: .int i :: .ref p :: r, h) <;> rfl
noncomputable def evY (d y np p : Nat) (lo : mx_L) (r : List Value) (h : mx_H) (i x : Int32) : Option (Nat × Nat × mx_A) → Option mx_R
  | some (1, n, .inl f) => if mx_inb i n = true then ev d y np lo r (mx_set h p (.inl (1, n, .inl (upd f i.toNatClampNeg x.toInt8.toInt32)))) else none
  | some (4, n, .inl f) => if mx_inb i n = true then ev d y np lo r (mx_set h p (.inl (4, n, .inl (upd f i.toNatClampNeg (x &&& 1))))) else none
  | _ => none
theorem ey_1 {n p : Nat} {i x : Int32} {f : Nat → Int32} : evY d y np p lo r h i x (some (1, n, .inl f)) = if mx_inb i n = true then ev d y np lo r (mx_set h p (.inl (1, n, .inl (upd f i.toNatClampNeg x.toInt8.toInt32)))) else none := rfl
theorem ey_4 {n p : Nat} {i x : Int32} {f : Nat → Int32} : evY d y np p lo r h i x (some (4, n, .inl f)) = if mx_inb i n = true then ev d y np lo r (mx_set h p (.inl (4, n, .inl (upd f i.toNatClampNeg (x &&& 1))))) else none := rfl
theorem ei_bast {i x : Int32} {p : Nat} : evI d y pc np lo (.int x :: .int i :: .ref p :: r) h .bastore = evY d y np p lo r h i x (mx_arr h p) := by
  unfold evI
  show evN (match mx_bst (lo, .int x :: .int i :: .ref p :: r, h) with | some S => .inr (.inl (d, y, np, S.1, S.2.1, S.2.2)) | none => .inl none) = _
  unfold mx_bst mx_ast
  dsimp only
  rcases ha : mx_arr h p with _ | ⟨t, n, f | f | f⟩
  · rfl
  · by_cases c1 : t = 1
    · subst c1
      rw [ey_1]
      by_cases g : mx_inb i n = true
      · simp only [g, and_self, if_true]; rfl
      · simp [g]; rfl
    · by_cases c4 : t = 4
      · subst c4
        rw [ey_4]
        by_cases g : mx_inb i n = true
        · simp [g]; rfl
        · simp [g]; rfl
      · have e : evY d y np p lo r h i x (some (t, n, .inl f)) = none := by
          unfold evY
          split
          · rename_i q; cases q; exact absurd rfl c1
          · rename_i q; cases q; exact absurd rfl c4
          · rfl
        rw [e]
        simp [c1, c4]
        rfl
  · simp only []; unfold evY; split <;> first | rfl | (rename_i q; cases q)
  · simp only []; unfold evY; split <;> first | rfl | (rename_i q; cases q)
noncomputable def evZ (d y np p : Nat) (lo : mx_L) (r : List Value) (h : mx_H) (i : Int32) (x : Int64) : Option (Nat × Nat × mx_A) → Option mx_R
  | some (3, n, .inr (.inl f)) => if mx_inb i n = true then ev d y np lo r (mx_set h p (.inl (3, n, .inr (.inl (vp_updL f i.toNatClampNeg x))))) else none
  | _ => none
theorem ez_3 {n p : Nat} {i : Int32} {x : Int64} {f : Nat → Int64} : evZ d y np p lo r h i x (some (3, n, .inr (.inl f))) = if mx_inb i n = true then ev d y np lo r (mx_set h p (.inl (3, n, .inr (.inl (vp_updL f i.toNatClampNeg x))))) else none := rfl
theorem ei_last {i : Int32} {x : Int64} {p : Nat} : evI d y pc np lo (.long x :: .int i :: .ref p :: r) h .lastore = evZ d y np p lo r h i x (mx_arr h p) := by
  unfold evI
  show evN (match mx_lst (lo, .long x :: .int i :: .ref p :: r, h) with | some S => .inr (.inl (d, y, np, S.1, S.2.1, S.2.2)) | none => .inl none) = _
  unfold mx_lst evZ
  dsimp only
  rcases mx_arr h p with _ | ⟨_ | _ | _ | _ | t, n, f | f | f⟩ <;> first | rfl | exact evN_ite
noncomputable def evR (d y np p v : Nat) (lo : mx_L) (r : List Value) (h : mx_H) (i : Int32) : Option (Nat × Nat × mx_A) → Option mx_R
  | some (t, n, .inr (.inr f)) => if mx_astOK (mx_kd h v) t = true ∧ mx_inb i n = true then ev d y np lo r (mx_set h p (.inl (t, n, .inr (.inr (va_up f i.toNatClampNeg (some v)))))) else none
  | _ => none
theorem er_row {t n p v : Nat} {i : Int32} {f : Nat → Option Nat} : evR d y np p v lo r h i (some (t, n, .inr (.inr f))) = if mx_astOK (mx_kd h v) t = true ∧ mx_inb i n = true then ev d y np lo r (mx_set h p (.inl (t, n, .inr (.inr (va_up f i.toNatClampNeg (some v)))))) else none := rfl
theorem ei_aast {i : Int32} {v p : Nat} : evI d y pc np lo (.ref v :: .int i :: .ref p :: r) h .aastore = evR d y np p v lo r h i (mx_arr h p) := by
  unfold evI
  show evN (match mx_qst (lo, .ref v :: .int i :: .ref p :: r, h) with | some S => .inr (.inl (d, y, np, S.1, S.2.1, S.2.2)) | none => .inl none) = _
  unfold mx_qst evR
  dsimp only
  rcases mx_arr h p with _ | ⟨t, n, f | f | f⟩ <;> first | rfl | exact evN_ite
noncomputable def evRF (d y np p : Nat) (v : UInt32) (lo : mx_L) (r : List Value) (h : mx_H) (i : Int32) : Option (Nat × Nat × mx_A) → Option mx_R
  | some (t, n, .inr (.inr f)) => if t = 7 ∧ v.toNat < 18 ∧ mx_inb i n = true then ev d y np lo r (mx_set h p (.inl (t, n, .inr (.inr (va_up f i.toNatClampNeg (some v.toNat)))))) else none
  | _ => none
theorem erf_row {t n p : Nat} {v : UInt32} {i : Int32} {f : Nat → Option Nat} : evRF d y np p v lo r h i (some (t, n, .inr (.inr f))) = if t = 7 ∧ v.toNat < 18 ∧ mx_inb i n = true then ev d y np lo r (mx_set h p (.inl (t, n, .inr (.inr (va_up f i.toNatClampNeg (some v.toNat)))))) else none := rfl
theorem ei_aastF {i : Int32} {v : UInt32} {p : Nat} : evI d y pc np lo (.float v :: .int i :: .ref p :: r) h .aastore = evRF d y np p v lo r h i (mx_arr h p) := by
  unfold evI
  show evN (match mx_qst (lo, .float v :: .int i :: .ref p :: r, h) with | some S => .inr (.inl (d, y, np, S.1, S.2.1, S.2.2)) | none => .inl none) = _
  unfold mx_qst evRF
  dsimp only
  rcases mx_arr h p with _ | ⟨t, n, f | f | f⟩ <;> first | rfl | exact evN_ite
noncomputable def evU (d y np : Nat) (lo : mx_L) (r : List Value) (h : mx_H) : Option (Nat × Nat × mx_A) → Option mx_R
  | some (_, n, _) => ev d y np lo (.int (Int32.ofNat n) :: r) h
  | none => none
theorem eu_row {t n : Nat} {a : mx_A} : evU d y np lo r h (some (t, n, a)) = ev d y np lo (.int (Int32.ofNat n) :: r) h := rfl
theorem ei_slen : evI d y pc np lo (.float 1000 :: r) h .arraylength = ev d y np lo (.int (Int32.ofNat h.1.1.1) :: r) h := by
  unfold evI
  show evN (match (if (1000 : UInt32) = 1000 then some (lo, .int (Int32.ofNat h.1.1.1) :: r, h) else none : Option mx_S) with | some S => .inr (.inl (d, y, np, S.1, S.2.1, S.2.2)) | none => .inl none) = _
  rw [if_pos rfl]
  rfl
theorem ei_alen {p : Nat} : evI d y pc np lo (.ref p :: r) h .arraylength = evU d y np lo r h (mx_arr h p) := by
  unfold evI
  show evN (match mx_alen (lo, .ref p :: r, h) with | some S => .inr (.inl (d, y, np, S.1, S.2.1, S.2.2)) | none => .inl none) = _
  unfold mx_alen evU
  dsimp only
  rcases mx_arr h p with _ | ⟨t, n, a⟩ <;> rfl
/-! new things -/
theorem es_nw {o i c : Nat} (hc : mx_newc o i = some c) : evS (mx_nw o i) d y np lo st h = ev d y np lo (.ref h.2.length :: st) (mx_psh h (mx_nf c) (.inr (c, fun k => mx_dfl (mx_fty c k)))) := by
  unfold evS mx_nw
  rw [hc]
theorem ei_na {a : ArrayType} {t : Nat} {z : mx_A} {n : Int32} (ha : mx_aty a = some (t, z)) : evI d y pc np lo (.int n :: r) h (.newarray a) = if n < 0 then evX8 r d y pc lo (.float 2041) (mx_vmx h) else if n.toNatClampNeg ≤ 400 then ev d y np lo (.ref h.2.length :: r) (mx_psh h n.toNatClampNeg (.inl (t, n.toNatClampNeg, z))) else none := by
  unfold evI
  show evN (if n < 0 then mx_up (mx_thr8 r d y pc lo (.float 2041) (mx_vmx h)) else match mx_na a (lo, .int n :: r, h) with | some S => .inr (.inl (d, y, np, S.1, S.2.1, S.2.2)) | none => .inl none) = _
  by_cases c : n < 0
  · rw [if_pos c, if_pos c]; rfl
  · rw [if_neg c, if_neg c]
    unfold mx_na
    dsimp only
    rw [ha]
    dsimp only
    by_cases g : n.toNatClampNeg ≤ 400
    · rw [if_pos ⟨c, g⟩, if_pos g]; rfl
    · rw [if_neg (fun z => g z.2), if_neg g]; rfl
theorem es_nq {o i t : Nat} {n : Int32} (ht : mx_anewc o i = some t) (h0 : ¬ n < 0) (h1 : n.toNatClampNeg ≤ 400) : evS (mx_nq o i) d y np lo (.int n :: r) h = ev d y np lo (.ref h.2.length :: r) (mx_psh h n.toNatClampNeg (.inl (t, n.toNatClampNeg, .inr (.inr fun _ => none)))) := by
  unfold evS mx_nq
  dsimp only
  rw [ht]
  dsimp only
  rw [if_pos ⟨h0, h1⟩]
/-! casts -/
noncomputable def evCC (d y pc np : Nat) (lo : mx_L) (r : List Value) (h : mx_H) (p : Nat) : Option Bool → Option mx_R
  | some true => ev d y np lo (.ref p :: r) h
  | some false => evX8 r d y pc lo (.float 2040) (mx_vmx h)
  | none => none
theorem ecc_t {p : Nat} : evCC d y pc np lo r h p (some true) = ev d y np lo (.ref p :: r) h := rfl
theorem ecc_f {p : Nat} : evCC d y pc np lo r h p (some false) = evX8 r d y pc lo (.float 2040) (mx_vmx h) := rfl
theorem ei_ccN {j : Nat} : evI d y pc np lo (.null :: r) h (.checkcast j) = ev d y np lo (.null :: r) h := rfl
theorem ei_cc {j t p : Nat} (ht : mx_tgt (mx_own y) j = some t) : evI d y pc np lo (.ref p :: r) h (.checkcast j) = evCC d y pc np lo r h p (mx_cast (mx_kd h p) t) := by
  unfold evI
  show evN (match mx_tgt (mx_own y) j with | some t => (match mx_cast (mx_kd h p) t with | some true => .inr (.inl (d, y, np, lo, .ref p :: r, h)) | some false => mx_up (mx_thr8 r d y pc lo (.float 2040) (mx_vmx h)) | none => .inl none) | none => .inl none) = _
  rw [ht]
  dsimp only
  rcases mx_cast (mx_kd h p) t with _ | _ | _ <;> rfl
noncomputable def evIO (d y np : Nat) (lo : mx_L) (r : List Value) (h : mx_H) : Option Bool → Option mx_R
  | some b => ev d y np lo (.int (if b then 1 else 0) :: r) h
  | none => none
theorem eio_t : evIO d y np lo r h (some true) = ev d y np lo (.int 1 :: r) h := rfl
theorem eio_f : evIO d y np lo r h (some false) = ev d y np lo (.int 0 :: r) h := rfl
theorem es_ioN {o j : Nat} : evS (mx_io o j) d y np lo (.null :: r) h = ev d y np lo (.int 0 :: r) h := rfl
theorem es_io {o j t p : Nat} (ht : mx_tgt o j = some t) : evS (mx_io o j) d y np lo (.ref p :: r) h = evIO d y np lo r h (mx_cast (mx_kd h p) t) := by
  unfold evS mx_io
  dsimp only
  rw [ht]
  dsimp only
  rcases mx_cast (mx_kd h p) t with _ | b <;> rfl
/-! ways -/
theorem ev_goto {off : Int} {n t : Nat} (hi : mx_ins y pc = some (.goto off, n)) (ht : mx_tg pc off = t) : ev d y pc lo st h = ev d y t lo st h := by
  rw [ev_u hi rfl]
  subst ht
  rfl
theorem evN_if {c : Bool} {t : Nat} : evN (.inr (.inl (d, y, if c then t else np, lo, r, h))) = if c = true then ev d y t lo r h else ev d y np lo r h := by
  cases c <;> rfl
noncomputable def evJ (c : Jvm.ClassFile.Cond) (d y t np : Nat) (lo : mx_L) : List Value → mx_H → Option mx_R
  | .int x :: r, h => if mx_c c x 0 = true then ev d y t lo r h else ev d y np lo r h
  | _, _ => none
theorem ev_if {c : Jvm.ClassFile.Cond} {off : Int} {n t : Nat} (hi : mx_ins y pc = some (.ifCond c off, n)) (hn : pc + n = np) (ht : mx_tg pc off = t) : ev d y pc lo st h = evJ c d y t np lo st h := by
  rw [ev_u hi hn]
  subst ht
  unfold evI evJ
  rcases st with _ | ⟨v, r⟩
  · rfl
  · cases v <;> first | rfl | exact evN_if
noncomputable def evK (c : Jvm.ClassFile.Cond) (d y t np : Nat) (lo : mx_L) : List Value → mx_H → Option mx_R
  | .int b :: .int a :: r, h => if mx_c c a b = true then ev d y t lo r h else ev d y np lo r h
  | _, _ => none
theorem ev_ic {c : Jvm.ClassFile.Cond} {off : Int} {n t : Nat} (hi : mx_ins y pc = some (.if_icmp c off, n)) (hn : pc + n = np) (ht : mx_tg pc off = t) : ev d y pc lo st h = evK c d y t np lo st h := by
  rw [ev_u hi hn]
  subst ht
  unfold evI evK
  rcases st with _ | ⟨v, _ | ⟨w, r⟩⟩
  · rfl
  · cases v <;> rfl
  · cases v <;> cases w <;> first | rfl | exact evN_if
theorem ej_eq {x : Int32} {t : Nat} : evJ .eq d y t np lo (.int x :: r) h = if x = 0 then ev d y t lo r h else ev d y np lo r h := by
  unfold evJ mx_c
  simp only [decide_eq_true_eq]
theorem ek_eq_ {a b : Int32} {t : Nat} : evK .eq d y t np lo (.int b :: .int a :: r) h = if a = b then ev d y t lo r h else ev d y np lo r h := by
  unfold evK mx_c
  simp only [decide_eq_true_eq]
theorem ej_ne {x : Int32} {t : Nat} : evJ .ne d y t np lo (.int x :: r) h = if ¬ x = 0 then ev d y t lo r h else ev d y np lo r h := by
  unfold evJ mx_c
  simp only [decide_eq_true_eq]
theorem ek_ne_ {a b : Int32} {t : Nat} : evK .ne d y t np lo (.int b :: .int a :: r) h = if ¬ a = b then ev d y t lo r h else ev d y np lo r h := by
  unfold evK mx_c
  simp only [decide_eq_true_eq]
theorem ej_lt {x : Int32} {t : Nat} : evJ .lt d y t np lo (.int x :: r) h = if x < 0 then ev d y t lo r h else ev d y np lo r h := by
  unfold evJ mx_c
  simp only [decide_eq_true_eq]
theorem ek_lt_ {a b : Int32} {t : Nat} : evK .lt d y t np lo (.int b :: .int a :: r) h = if a < b then ev d y t lo r h else ev d y np lo r h := by
  unfold evK mx_c
  simp only [decide_eq_true_eq]
theorem ej_ge {x : Int32} {t : Nat} : evJ .ge d y t np lo (.int x :: r) h = if 0 ≤ x then ev d y t lo r h else ev d y np lo r h := by
  unfold evJ mx_c
  simp only [decide_eq_true_eq]
theorem ek_ge_ {a b : Int32} {t : Nat} : evK .ge d y t np lo (.int b :: .int a :: r) h = if b ≤ a then ev d y t lo r h else ev d y np lo r h := by
  unfold evK mx_c
  simp only [decide_eq_true_eq]
theorem ej_gt {x : Int32} {t : Nat} : evJ .gt d y t np lo (.int x :: r) h = if 0 < x then ev d y t lo r h else ev d y np lo r h := by
  unfold evJ mx_c
  simp only [decide_eq_true_eq]
theorem ek_gt_ {a b : Int32} {t : Nat} : evK .gt d y t np lo (.int b :: .int a :: r) h = if b < a then ev d y t lo r h else ev d y np lo r h := by
  unfold evK mx_c
  simp only [decide_eq_true_eq]
theorem ej_le {x : Int32} {t : Nat} : evJ .le d y t np lo (.int x :: r) h = if x ≤ 0 then ev d y t lo r h else ev d y np lo r h := by
  unfold evJ mx_c
  simp only [decide_eq_true_eq]
theorem ek_le_ {a b : Int32} {t : Nat} : evK .le d y t np lo (.int b :: .int a :: r) h = if a ≤ b then ev d y t lo r h else ev d y np lo r h := by
  unfold evK mx_c
  simp only [decide_eq_true_eq]
noncomputable def evNN (d y t np : Nat) (lo : mx_L) : List Value → mx_H → Option mx_R
  | .ref _ :: r, h => ev d y t lo r h
  | .null :: r, h => ev d y np lo r h
  | _, _ => none
theorem ev_nn {off : Int} {n t : Nat} (hi : mx_ins y pc = some (.ifnonnull off, n)) (hn : pc + n = np) (ht : mx_tg pc off = t) : ev d y pc lo st h = evNN d y t np lo st h := by
  rw [ev_u hi hn]
  subst ht
  unfold evI evNN
  rcases st with _ | ⟨v, r⟩
  · rfl
  · cases v <;> rfl
theorem enn_r {q t : Nat} : evNN d y t np lo (.ref q :: r) h = ev d y t lo r h := rfl
theorem enn_n {t : Nat} : evNN d y t np lo (.null :: r) h = ev d y np lo r h := rfl
noncomputable def evSW (d y : Nat) (lo : mx_L) (r : List Value) (h : mx_H) (x : Int32) : List (Int32 × Nat) → Nat → Option mx_R
  | [], t => ev d y t lo r h
  | (k, t') :: l, t => if x = k then ev d y t' lo r h else evSW d y lo r h x l t
noncomputable def evTS (d y : Nat) (l : List (Int32 × Nat)) (t : Nat) (lo : mx_L) : List Value → mx_H → Option mx_R
  | .int x :: r, h => evSW d y lo r h x l t
  | _, _ => none
theorem ets {l : List (Int32 × Nat)} {t : Nat} {x : Int32} : evTS d y l t lo (.int x :: r) h = evSW d y lo r h x l t := rfl
theorem esw_n {x : Int32} {t : Nat} : evSW d y lo r h x [] t = ev d y t lo r h := rfl
theorem esw_c {x k : Int32} {l : List (Int32 × Nat)} {t t' : Nat} : evSW d y lo r h x ((k, t') :: l) t = if x = k then ev d y t' lo r h else evSW d y lo r h x l t := rfl
def mx_tsl (pc : Nat) : Int → List Int → List (Int32 × Nat)
  | _, [] => []
  | k, o :: os => (Int32.ofInt k, mx_tg pc o) :: mx_tsl pc (k + 1) os
theorem evSW_ts {x : Int32} {df : Int} : ∀ (os : List Int) (k : Int), evN (.inr (.inl (d, y, mx_tg pc (mx_tsw x k os df), lo, r, h))) = evSW d y lo r h x (mx_tsl pc k os) (mx_tg pc df)
  | [], _ => rfl
  | o :: os, k => by
    unfold mx_tsw mx_tsl evSW
    by_cases c : x = Int32.ofInt k
    · rw [if_pos c, if_pos c]; rfl
    · rw [if_neg c, if_neg c]; exact evSW_ts os (k + 1)
theorem ev_ts {df lw hi : Int} {offs : Array Int} {n t : Nat} {l : List (Int32 × Nat)} (hh : mx_ins y pc = some (.tableswitch df lw hi offs, n)) (ht : mx_tg pc df = t) (hl : mx_tsl pc lw offs.toList = l) : ev d y pc lo st h = evTS d y l t lo st h := by
  rw [ev_u hh rfl]
  subst ht; subst hl
  unfold evI evTS
  rcases st with _ | ⟨v, r⟩
  · rfl
  · cases v <;> first | rfl | exact evSW_ts _ _
def mx_lsl (pc : Nat) : List (Int × Int) → List (Int32 × Nat)
  | [] => []
  | (k, o) :: os => (Int32.ofInt k, mx_tg pc o) :: mx_lsl pc os
theorem evSW_ls {x : Int32} {df : Int} : ∀ (os : List (Int × Int)), evN (.inr (.inl (d, y, mx_tg pc (mx_lsw x os df), lo, r, h))) = evSW d y lo r h x (mx_lsl pc os) (mx_tg pc df)
  | [] => rfl
  | (k, o) :: os => by
    unfold mx_lsw mx_lsl evSW
    by_cases c : x = Int32.ofInt k
    · rw [if_pos c, if_pos c]; rfl
    · rw [if_neg c, if_neg c]; exact evSW_ls os
theorem ev_ls {df : Int} {ps : Array (Int × Int)} {n t : Nat} {l : List (Int32 × Nat)} (hh : mx_ins y pc = some (.lookupswitch df ps, n)) (ht : mx_tg pc df = t) (hl : mx_lsl pc ps.toList = l) : ev d y pc lo st h = evTS d y l t lo st h := by
  rw [ev_u hh rfl]
  subst ht; subst hl
  unfold evI evTS
  rcases st with _ | ⟨v, r⟩
  · rfl
  · cases v <;> first | rfl | exact evSW_ls _
/-! calls -/
/-- goes on behind a call with what came of it -/
noncomputable def evZK (d y pc np : Nat) (lo : mx_L) (rest : List Value) : Option mx_R → Option mx_R
  | none => none
  | some (.inl none, h) => ev d y np lo rest h
  | some (.inl (some v), h) => ev d y np lo (v :: rest) h
  | some (.inr q, h) => evX d y pc lo q h
theorem ezk_n : evZK d y pc np lo r none = none := rfl
theorem ezk_v : evZK d y pc np lo r (some (.inl none, h)) = ev d y np lo r h := rfl
theorem ezk_s {v : Value} : evZK d y pc np lo r (some (.inl (some v), h)) = ev d y np lo (v :: r) h := rfl
theorem ezk_x {q : Value} : evZK d y pc np lo r (some (.inr q, h)) = evX d y pc lo q h := rfl
theorem ezk_if {c : Prop} [Decidable c] {a b : Option mx_R} : evZK d y pc np lo r (if c then a else b) = if c then evZK d y pc np lo r a else evZK d y pc np lo r b := by split <;> rfl
noncomputable def evCa (d y pc np : Nat) (lo : mx_L) (args rest : List Value) (h : mx_H) (kd y' : Nat) : Option mx_R :=
  if 8 < mx_csz rest then none else if 20 ≤ kd then (match mx_prim kd args h with
    | some (v, h') => ev d y np lo (mx_psv v rest) h'
    | none => none)
  else match d with
    | 0 => none
    | d' + 1 => if mx_max y' < mx_csz args then none else evZK (d' + 1) y pc np lo rest (evM d' y' args h)
theorem evN_call {d' y' : Nat} {args rest : List Value} : evN (.inr (.inr (mx_ent d' y' args h, fun z => match z with
      | (.inl v, h') => .inr (d, y, np, lo, mx_psv v rest, h')
      | (.inr q, h') => mx_thr d y pc lo q h'))) = evZK d y pc np lo rest (evM d' y' args h) := by
  show (mx_lim mx_nx (mx_ent d' y' args h)).bind _ = _
  unfold evM
  rcases mx_lim mx_nx (mx_ent d' y' args h) with _ | ⟨_ | q, h'⟩
  · rfl
  · rename_i v
    cases v <;> rfl
  · rw [ezk_x]
    unfold evX
    simp only [Option.bind_some]
    cases mx_thr d y pc lo q h' <;> rfl
theorem ev_call {oc j na kd y' : Nat} {fr : Bool} {args rest : List Value} (hna : mx_ina (mx_own y) j = some (na, fr, oc)) (hl : ¬ st.length < na) (hk : mx_inv (mx_own y) j (if fr then 0 else match (st[na - 1]? : Option Value) with | some (.ref p) => mx_kd h p | _ => 98) = some (kd, y')) (ha : (st.take na).reverse = args) (hr : st.drop na = rest) : evN (mx_call d y pc np oc j lo st h) = evCa d y pc np lo args rest h kd y' := by
  subst ha; subst hr
  unfold mx_call evCa
  rw [hna]
  dsimp only
  rw [if_neg (fun z => z.elim (fun q => q rfl) hl), hk]
  dsimp only
  by_cases c8 : 8 < mx_csz (st.drop na)
  · rw [if_pos c8, if_pos c8]; rfl
  rw [if_neg c8, if_neg c8]
  by_cases c : 20 ≤ kd
  · rw [if_pos c, if_pos c]
    rcases mx_prim kd (st.take na).reverse h with _ | ⟨v, h'⟩ <;> rfl
  · rw [if_neg c, if_neg c]
    cases d with
    | zero => rfl
    | succ d' =>
      dsimp only
      by_cases g : mx_max y' < mx_csz (st.take na).reverse
      · rw [if_pos g, if_pos g]; rfl
      · rw [if_neg g, if_neg g]
        exact evN_call
/-- which method: by the class of the receiver -/
noncomputable def evV (d y pc np : Nat) (lo : mx_L) (args rest : List Value) (h : mx_H) : Option (Nat × Nat) → Option mx_R
  | some (kd, y') => evCa d y pc np lo args rest h kd y'
  | none => none
theorem evV_row {kd y' : Nat} {args rest : List Value} : evV d y pc np lo args rest h (some (kd, y')) = evCa d y pc np lo args rest h kd y' := rfl
/-- an invoke of na arguments out of the stack; o: the class of the code -/
noncomputable def evIn (d y pc np o j na : Nat) (fr : Bool) (lo : mx_L) (st : List Value) (h : mx_H) : Option mx_R :=
  if st.length < na then none else evV d y pc np lo (st.take na).reverse (st.drop na) h (mx_inv o j (if fr then 0 else match (st[na - 1]? : Option Value) with | some (.ref p) => mx_kd h p | _ => 98))
theorem ev_inv {i : Instr} {n o j na oc : Nat} {fr : Bool} (hi : mx_ins y pc = some (i, n)) (hn : pc + n = np) (hc : mx_nxi d y pc np lo st h i = mx_call d y pc np oc j lo st h) (ho : mx_own y = o) (hna : mx_ina o j = some (na, fr, oc)) : ev d y pc lo st h = evIn d y pc np o j na fr lo st h := by
  rw [ev_u hi hn]
  subst ho
  unfold evI evIn
  rw [hc]
  by_cases c : st.length < na
  · rw [if_pos c]
    unfold mx_call
    rw [hna]
    dsimp only
    rw [if_pos (Or.inr c)]
    rfl
  · rw [if_neg c]
    cases hk : mx_inv (mx_own y) j (if fr then 0 else match (st[na - 1]? : Option Value) with | some (.ref p) => mx_kd h p | _ => 98) with
    | none =>
      unfold mx_call
      rw [hna]
      dsimp only
      rw [if_neg (fun z => z.elim (fun q => q rfl) c), hk]
      rfl
    | some z =>
      obtain ⟨kd, y'⟩ := z
      exact ev_call hna c hk rfl rfl
theorem eis_0 {o j : Nat} : evIn d y pc np o j 0 true lo (r) h = evV d y pc np lo [] r h (mx_inv o j 0) := by
  unfold evIn
  rw [if_neg (Nat.not_lt_zero _)]
  rfl
theorem eis_1 {o j : Nat} {v0 : Value} : evIn d y pc np o j 1 true lo (v0 :: r) h = evV d y pc np lo [v0] r h (mx_inv o j 0) := by
  unfold evIn
  rw [if_neg (by simp only [List.length_cons]; omega)]
  rfl
theorem eiv_1 {o j p : Nat} : evIn d y pc np o j 1 false lo (.ref p :: r) h = evV d y pc np lo [.ref p] r h (mx_inv o j (mx_kd h p)) := by
  unfold evIn
  rw [if_neg (by simp only [List.length_cons]; omega)]
  rfl
theorem eis_2 {o j : Nat} {v0 v1 : Value} : evIn d y pc np o j 2 true lo (v0 :: v1 :: r) h = evV d y pc np lo [v1, v0] r h (mx_inv o j 0) := by
  unfold evIn
  rw [if_neg (by simp only [List.length_cons]; omega)]
  rfl
theorem eiv_2 {o j p : Nat} {v0 : Value} : evIn d y pc np o j 2 false lo (v0 :: .ref p :: r) h = evV d y pc np lo [.ref p, v0] r h (mx_inv o j (mx_kd h p)) := by
  unfold evIn
  rw [if_neg (by simp only [List.length_cons]; omega)]
  rfl
theorem eis_3 {o j : Nat} {v0 v1 v2 : Value} : evIn d y pc np o j 3 true lo (v0 :: v1 :: v2 :: r) h = evV d y pc np lo [v2, v1, v0] r h (mx_inv o j 0) := by
  unfold evIn
  rw [if_neg (by simp only [List.length_cons]; omega)]
  rfl
theorem eiv_3 {o j p : Nat} {v0 v1 : Value} : evIn d y pc np o j 3 false lo (v0 :: v1 :: .ref p :: r) h = evV d y pc np lo [.ref p, v1, v0] r h (mx_inv o j (mx_kd h p)) := by
  unfold evIn
  rw [if_neg (by simp only [List.length_cons]; omega)]
  rfl
theorem eis_4 {o j : Nat} {v0 v1 v2 v3 : Value} : evIn d y pc np o j 4 true lo (v0 :: v1 :: v2 :: v3 :: r) h = evV d y pc np lo [v3, v2, v1, v0] r h (mx_inv o j 0) := by
  unfold evIn
  rw [if_neg (by simp only [List.length_cons]; omega)]
  rfl
theorem eiv_4 {o j p : Nat} {v0 v1 v2 : Value} : evIn d y pc np o j 4 false lo (v0 :: v1 :: v2 :: .ref p :: r) h = evV d y pc np lo [.ref p, v2, v1, v0] r h (mx_inv o j (mx_kd h p)) := by
  unfold evIn
  rw [if_neg (by simp only [List.length_cons]; omega)]
  rfl
theorem eis_5 {o j : Nat} {v0 v1 v2 v3 v4 : Value} : evIn d y pc np o j 5 true lo (v0 :: v1 :: v2 :: v3 :: v4 :: r) h = evV d y pc np lo [v4, v3, v2, v1, v0] r h (mx_inv o j 0) := by
  unfold evIn
  rw [if_neg (by simp only [List.length_cons]; omega)]
  rfl
theorem eiv_5 {o j p : Nat} {v0 v1 v2 v3 : Value} : evIn d y pc np o j 5 false lo (v0 :: v1 :: v2 :: v3 :: .ref p :: r) h = evV d y pc np lo [.ref p, v3, v2, v1, v0] r h (mx_inv o j (mx_kd h p)) := by
  unfold evIn
  rw [if_neg (by simp only [List.length_cons]; omega)]
  rfl
theorem eis_6 {o j : Nat} {v0 v1 v2 v3 v4 v5 : Value} : evIn d y pc np o j 6 true lo (v0 :: v1 :: v2 :: v3 :: v4 :: v5 :: r) h = evV d y pc np lo [v5, v4, v3, v2, v1, v0] r h (mx_inv o j 0) := by
  unfold evIn
  rw [if_neg (by simp only [List.length_cons]; omega)]
  rfl
theorem eiv_6 {o j p : Nat} {v0 v1 v2 v3 v4 : Value} : evIn d y pc np o j 6 false lo (v0 :: v1 :: v2 :: v3 :: v4 :: .ref p :: r) h = evV d y pc np lo [.ref p, v4, v3, v2, v1, v0] r h (mx_inv o j (mx_kd h p)) := by
  unfold evIn
  rw [if_neg (by simp only [List.length_cons]; omega)]
  rfl
theorem eis_7 {o j : Nat} {v0 v1 v2 v3 v4 v5 v6 : Value} : evIn d y pc np o j 7 true lo (v0 :: v1 :: v2 :: v3 :: v4 :: v5 :: v6 :: r) h = evV d y pc np lo [v6, v5, v4, v3, v2, v1, v0] r h (mx_inv o j 0) := by
  unfold evIn
  rw [if_neg (by simp only [List.length_cons]; omega)]
  rfl
theorem eiv_7 {o j p : Nat} {v0 v1 v2 v3 v4 v5 : Value} : evIn d y pc np o j 7 false lo (v0 :: v1 :: v2 :: v3 :: v4 :: v5 :: .ref p :: r) h = evV d y pc np lo [.ref p, v5, v4, v3, v2, v1, v0] r h (mx_inv o j (mx_kd h p)) := by
  unfold evIn
  rw [if_neg (by simp only [List.length_cons]; omega)]
  rfl
theorem eca_m {d' y' kd : Nat} {args rest : List Value} (hk : ¬ 20 ≤ kd) (hr : mx_csz rest ≤ 8) (hs : mx_csz args ≤ mx_max y') : evCa (d' + 1) y pc np lo args rest h kd y' = evZK (d' + 1) y pc np lo rest (evM d' y' args h) := by
  unfold evCa
  rw [if_neg (by omega), if_neg hk]
  dsimp only
  rw [if_neg (by omega)]
noncomputable def evPr (d y np : Nat) (lo : mx_L) (rest : List Value) : Option (Option Value × mx_H) → Option mx_R
  | some (v, h') => ev d y np lo (mx_psv v rest) h'
  | none => none
theorem eca_p {kd y' : Nat} {args rest : List Value} (hk : 20 ≤ kd) (hr : mx_csz rest ≤ 8) : evCa d y pc np lo args rest h kd y' = evPr d y np lo rest (mx_prim kd args h) := by
  unfold evCa evPr
  rw [if_neg (by omega), if_pos hk]
theorem eca_obj {p y' : Nat} {rest : List Value} (hr : mx_csz rest ≤ 8) : evCa d y pc np lo [.ref p] rest h 20 y' = ev d y np lo rest h := (eca_p (by decide) hr).trans rfl
theorem eca_max {a b : Int32} {y' : Nat} {rest : List Value} (hr : mx_csz rest ≤ 8) : evCa d y pc np lo [.int a, .int b] rest h 21 y' = ev d y np lo (.int (if a < b then b else a) :: rest) h := (eca_p (by decide) hr).trans rfl
theorem eca_min {a b : Int32} {y' : Nat} {rest : List Value} (hr : mx_csz rest ≤ 8) : evCa d y pc np lo [.int a, .int b] rest h 22 y' = ev d y np lo (.int (if b < a then b else a) :: rest) h := (eca_p (by decide) hr).trans rfl
theorem epr_v {rest : List Value} : evPr d y np lo rest (some (none, h)) = ev d y np lo rest h := rfl
theorem epr_s {v : Value} {rest : List Value} : evPr d y np lo rest (some (some v, h)) = ev d y np lo (v :: rest) h := rfl
theorem csz_0 : mx_csz [] = 0 := rfl
theorem csz_i {x : Int32} : mx_csz (.int x :: r) = 1 + mx_csz r := by simp [mx_csz, Value.category]
theorem csz_r {x : Nat} : mx_csz (.ref x :: r) = 1 + mx_csz r := by simp [mx_csz, Value.category]
theorem csz_n : mx_csz (.null :: r) = 1 + mx_csz r := by simp [mx_csz, Value.category]
theorem csz_f {x : UInt32} : mx_csz (.float x :: r) = 1 + mx_csz r := by simp [mx_csz, Value.category]
theorem csz_l {x : Int64} : mx_csz (.long x :: r) = 2 + mx_csz r := by simp [mx_csz, Value.category]
end MXR
