/-! THE COUNTERS GROW, the script stays -/
def mx_qle (q q' : mx_Q) : Prop := q'.1 = q.1 ∧ q.2.1 ≤ q'.2.1 ∧ q.2.2 ≤ q'.2.2
theorem mx_qle.rf (q : mx_Q) : mx_qle q q := ⟨rfl, Nat.le_refl _, Nat.le_refl _⟩
theorem mx_qle.tr {a b c : mx_Q} (h1 : mx_qle a b) (h2 : mx_qle b c) : mx_qle a c := ⟨h2.1.trans h1.1, Nat.le_trans h1.2.1 h2.2.1, Nat.le_trans h1.2.2 h2.2.2⟩
theorem mx_qle_bump (q : mx_Q) (c s : Nat) : mx_qle q (mx_bump q c s) := ⟨rfl, Nat.le_add_right _ _, Nat.le_add_right _ _⟩
theorem mx_le_push (v : Value) {S S' : mx_S} (hs : mx_push v S = some S') : mx_qle S.2.2.1 S'.2.2.1 := by
  unfold mx_push at hs
  (repeat' split at hs) <;> first | (cases hs; exact mx_qle.rf _) | (cases hs; exact mx_qle_bump _ _ _) | cases hs
theorem mx_le_ii (f : Int32 → Int32 → Int32) {S S' : mx_S} (hs : mx_ii f S = some S') : mx_qle S.2.2.1 S'.2.2.1 := by
  unfold mx_ii at hs
  (repeat' split at hs) <;> first | (cases hs; exact mx_qle.rf _) | (cases hs; exact mx_qle_bump _ _ _) | cases hs
theorem mx_le_ll (f : Int64 → Int64 → Int64) {S S' : mx_S} (hs : mx_ll f S = some S') : mx_qle S.2.2.1 S'.2.2.1 := by
  unfold mx_ll at hs
  (repeat' split at hs) <;> first | (cases hs; exact mx_qle.rf _) | (cases hs; exact mx_qle_bump _ _ _) | cases hs
theorem mx_le_li (f : Int64 → Int32 → Int64) {S S' : mx_S} (hs : mx_li f S = some S') : mx_qle S.2.2.1 S'.2.2.1 := by
  unfold mx_li at hs
  (repeat' split at hs) <;> first | (cases hs; exact mx_qle.rf _) | (cases hs; exact mx_qle_bump _ _ _) | cases hs
theorem mx_le_i1 (f : Int32 → Value) {S S' : mx_S} (hs : mx_i1 f S = some S') : mx_qle S.2.2.1 S'.2.2.1 := by
  unfold mx_i1 at hs
  (repeat' split at hs) <;> first | (cases hs; exact mx_qle.rf _) | (cases hs; exact mx_qle_bump _ _ _) | cases hs
theorem mx_le_l1 (f : Int64 → Value) {S S' : mx_S} (hs : mx_l1 f S = some S') : mx_qle S.2.2.1 S'.2.2.1 := by
  unfold mx_l1 at hs
  (repeat' split at hs) <;> first | (cases hs; exact mx_qle.rf _) | (cases hs; exact mx_qle_bump _ _ _) | cases hs
theorem mx_le_lcmp  {S S' : mx_S} (hs : mx_lcmp  S = some S') : mx_qle S.2.2.1 S'.2.2.1 := by
  unfold mx_lcmp at hs
  (repeat' split at hs) <;> first | (cases hs; exact mx_qle.rf _) | (cases hs; exact mx_qle_bump _ _ _) | cases hs
theorem mx_le_ldI (k : Nat) {S S' : mx_S} (hs : mx_ldI k S = some S') : mx_qle S.2.2.1 S'.2.2.1 := by
  unfold mx_ldI at hs
  (repeat' split at hs) <;> first | (cases hs; exact mx_qle.rf _) | (cases hs; exact mx_qle_bump _ _ _) | cases hs
theorem mx_le_ldL (k : Nat) {S S' : mx_S} (hs : mx_ldL k S = some S') : mx_qle S.2.2.1 S'.2.2.1 := by
  unfold mx_ldL at hs
  (repeat' split at hs) <;> first | (cases hs; exact mx_qle.rf _) | (cases hs; exact mx_qle_bump _ _ _) | cases hs
theorem mx_le_ldA (k : Nat) {S S' : mx_S} (hs : mx_ldA k S = some S') : mx_qle S.2.2.1 S'.2.2.1 := by
  unfold mx_ldA at hs
  (repeat' split at hs) <;> first | (cases hs; exact mx_qle.rf _) | (cases hs; exact mx_qle_bump _ _ _) | cases hs
theorem mx_le_stI (k : Nat) {S S' : mx_S} (hs : mx_stI k S = some S') : mx_qle S.2.2.1 S'.2.2.1 := by
  unfold mx_stI at hs
  (repeat' split at hs) <;> first | (cases hs; exact mx_qle.rf _) | (cases hs; exact mx_qle_bump _ _ _) | cases hs
theorem mx_le_stL (k : Nat) {S S' : mx_S} (hs : mx_stL k S = some S') : mx_qle S.2.2.1 S'.2.2.1 := by
  unfold mx_stL at hs
  (repeat' split at hs) <;> first | (cases hs; exact mx_qle.rf _) | (cases hs; exact mx_qle_bump _ _ _) | cases hs
theorem mx_le_stA (k : Nat) {S S' : mx_S} (hs : mx_stA k S = some S') : mx_qle S.2.2.1 S'.2.2.1 := by
  unfold mx_stA at hs
  (repeat' split at hs) <;> first | (cases hs; exact mx_qle.rf _) | (cases hs; exact mx_qle_bump _ _ _) | cases hs
theorem mx_le_inc (k : Nat) (n : Int) {S S' : mx_S} (hs : mx_inc k n S = some S') : mx_qle S.2.2.1 S'.2.2.1 := by
  unfold mx_inc at hs
  (repeat' split at hs) <;> first | (cases hs; exact mx_qle.rf _) | (cases hs; exact mx_qle_bump _ _ _) | cases hs
theorem mx_le_dup  {S S' : mx_S} (hs : mx_dup  S = some S') : mx_qle S.2.2.1 S'.2.2.1 := by
  unfold mx_dup at hs
  (repeat' split at hs) <;> first | (cases hs; exact mx_qle.rf _) | (cases hs; exact mx_qle_bump _ _ _) | cases hs
theorem mx_le_dup2  {S S' : mx_S} (hs : mx_dup2  S = some S') : mx_qle S.2.2.1 S'.2.2.1 := by
  unfold mx_dup2 at hs
  (repeat' split at hs) <;> first | (cases hs; exact mx_qle.rf _) | (cases hs; exact mx_qle_bump _ _ _) | cases hs
theorem mx_le_ald  {S S' : mx_S} (hs : mx_ald  S = some S') : mx_qle S.2.2.1 S'.2.2.1 := by
  unfold mx_ald at hs
  (repeat' split at hs) <;> first | (cases hs; exact mx_qle.rf _) | (cases hs; exact mx_qle_bump _ _ _) | cases hs
theorem mx_le_bld  {S S' : mx_S} (hs : mx_bld  S = some S') : mx_qle S.2.2.1 S'.2.2.1 := by
  unfold mx_bld at hs
  (repeat' split at hs) <;> first | (cases hs; exact mx_qle.rf _) | (cases hs; exact mx_qle_bump _ _ _) | cases hs
theorem mx_le_sld  {S S' : mx_S} (hs : mx_sld  S = some S') : mx_qle S.2.2.1 S'.2.2.1 := by
  unfold mx_sld at hs
  (repeat' split at hs) <;> first | (cases hs; exact mx_qle.rf _) | (cases hs; exact mx_qle_bump _ _ _) | cases hs
theorem mx_le_lld  {S S' : mx_S} (hs : mx_lld  S = some S') : mx_qle S.2.2.1 S'.2.2.1 := by
  unfold mx_lld at hs
  (repeat' split at hs) <;> first | (cases hs; exact mx_qle.rf _) | (cases hs; exact mx_qle_bump _ _ _) | cases hs
theorem mx_le_qld  {S S' : mx_S} (hs : mx_qld  S = some S') : mx_qle S.2.2.1 S'.2.2.1 := by
  unfold mx_qld at hs
  (repeat' split at hs) <;> first | (cases hs; exact mx_qle.rf _) | (cases hs; exact mx_qle_bump _ _ _) | cases hs
theorem mx_le_ast (t : Nat) (f : Int32 → Int32) {S S' : mx_S} (hs : mx_ast t f S = some S') : mx_qle S.2.2.1 S'.2.2.1 := by
  unfold mx_ast at hs
  (repeat' split at hs) <;> first | (cases hs; exact mx_qle.rf _) | (cases hs; exact mx_qle_bump _ _ _) | cases hs
theorem mx_le_lst  {S S' : mx_S} (hs : mx_lst  S = some S') : mx_qle S.2.2.1 S'.2.2.1 := by
  unfold mx_lst at hs
  (repeat' split at hs) <;> first | (cases hs; exact mx_qle.rf _) | (cases hs; exact mx_qle_bump _ _ _) | cases hs
theorem mx_le_qst  {S S' : mx_S} (hs : mx_qst  S = some S') : mx_qle S.2.2.1 S'.2.2.1 := by
  unfold mx_qst at hs
  (repeat' split at hs) <;> first | (cases hs; exact mx_qle.rf _) | (cases hs; exact mx_qle_bump _ _ _) | cases hs
theorem mx_le_alen  {S S' : mx_S} (hs : mx_alen  S = some S') : mx_qle S.2.2.1 S'.2.2.1 := by
  unfold mx_alen at hs
  (repeat' split at hs) <;> first | (cases hs; exact mx_qle.rf _) | (cases hs; exact mx_qle_bump _ _ _) | cases hs
theorem mx_le_gf (o i : Nat) {S S' : mx_S} (hs : mx_gf o i S = some S') : mx_qle S.2.2.1 S'.2.2.1 := by
  unfold mx_gf at hs
  (repeat' split at hs) <;> first | (cases hs; exact mx_qle.rf _) | (cases hs; exact mx_qle_bump _ _ _) | cases hs
theorem mx_le_pf (o i : Nat) (b : Bool) {S S' : mx_S} (hs : mx_pf o i b S = some S') : mx_qle S.2.2.1 S'.2.2.1 := by
  unfold mx_pf at hs
  (repeat' split at hs) <;> first | (cases hs; exact mx_qle.rf _) | (cases hs; exact mx_qle_bump _ _ _) | cases hs
theorem mx_le_nw (o i : Nat) {S S' : mx_S} (hs : mx_nw o i S = some S') : mx_qle S.2.2.1 S'.2.2.1 := by
  unfold mx_nw at hs
  (repeat' split at hs) <;> first | (cases hs; exact mx_qle.rf _) | (cases hs; exact mx_qle_bump _ _ _) | cases hs
theorem mx_le_na (a : ArrayType) {S S' : mx_S} (hs : mx_na a S = some S') : mx_qle S.2.2.1 S'.2.2.1 := by
  unfold mx_na at hs
  (repeat' split at hs) <;> first | (cases hs; exact mx_qle.rf _) | (cases hs; exact mx_qle_bump _ _ _) | cases hs
theorem mx_le_nq (o i : Nat) {S S' : mx_S} (hs : mx_nq o i S = some S') : mx_qle S.2.2.1 S'.2.2.1 := by
  unfold mx_nq at hs
  (repeat' split at hs) <;> first | (cases hs; exact mx_qle.rf _) | (cases hs; exact mx_qle_bump _ _ _) | cases hs
theorem mx_le_cc (o i : Nat) {S S' : mx_S} (hs : mx_cc o i S = some S') : mx_qle S.2.2.1 S'.2.2.1 := by
  unfold mx_cc at hs
  (repeat' split at hs) <;> first | (cases hs; exact mx_qle.rf _) | (cases hs; exact mx_qle_bump _ _ _) | cases hs
theorem mx_le_io (o i : Nat) {S S' : mx_S} (hs : mx_io o i S = some S') : mx_qle S.2.2.1 S'.2.2.1 := by
  unfold mx_io at hs
  (repeat' split at hs) <;> first | (cases hs; exact mx_qle.rf _) | (cases hs; exact mx_qle_bump _ _ _) | cases hs
theorem mx_le_dv (f : Int32 → Int32 → Int32) {S S' : mx_S} (hs : mx_dv f S = some S') : mx_qle S.2.2.1 S'.2.2.1 := by
  unfold mx_dv at hs
  (repeat' split at hs) <;> first | (cases hs; exact mx_qle.rf _) | (cases hs; exact mx_qle_bump _ _ _) | cases hs
theorem mx_le_ldv  {S S' : mx_S} (hs : mx_ldv  S = some S') : mx_qle S.2.2.1 S'.2.2.1 := by
  unfold mx_ldv at hs
  (repeat' split at hs) <;> first | (cases hs; exact mx_qle.rf _) | (cases hs; exact mx_qle_bump _ _ _) | cases hs
theorem mx_le_bst {S S' : mx_S} (hs : mx_bst S = some S') : mx_qle S.2.2.1 S'.2.2.1 := by
  unfold mx_bst at hs
  split at hs
  · rename_i z hz
    cases hs
    exact mx_le_ast _ _ hz
  · exact mx_le_ast _ _ hs
theorem mx_le_lc (o i : Nat) {S S' : mx_S} (hs : mx_lc o i S = some S') : mx_qle S.2.2.1 S'.2.2.1 := by
  unfold mx_lc at hs
  split at hs
  · exact mx_le_push _ hs
  · split at hs
    · exact mx_le_push _ hs
    · cases hs
theorem mx_le_lcw (o i : Nat) {S S' : mx_S} (hs : mx_lcw o i S = some S') : mx_qle S.2.2.1 S'.2.2.1 := by
  unfold mx_lcw at hs
  split at hs
  · exact mx_le_push _ hs
  · cases hs
theorem mx_le_lc2 (o i : Nat) {S S' : mx_S} (hs : mx_lc2 o i S = some S') : mx_qle S.2.2.1 S'.2.2.1 := by
  unfold mx_lc2 at hs
  split at hs
  · exact mx_le_push _ hs
  · cases hs
theorem mx_sim_le {o : Nat} {ini : Bool} {i : Instr} {S S' : mx_S} (hs : mx_sim o ini i S = some S') : mx_qle S.2.2.1 S'.2.2.1 := by
  unfold mx_sim at hs
  split at hs
  all_goals first
    | exact mx_le_push _ hs
    | exact mx_le_ii _ hs
    | exact mx_le_ll _ hs
    | exact mx_le_li _ hs
    | exact mx_le_i1 _ hs
    | exact mx_le_l1 _ hs
    | exact mx_le_lcmp hs
    | exact mx_le_ldI _ hs
    | exact mx_le_ldL _ hs
    | exact mx_le_ldA _ hs
    | exact mx_le_stI _ hs
    | exact mx_le_stL _ hs
    | exact mx_le_stA _ hs
    | exact mx_le_inc _ _ hs
    | exact mx_le_dup hs
    | exact mx_le_dup2 hs
    | exact mx_le_ald hs
    | exact mx_le_bld hs
    | exact mx_le_sld hs
    | exact mx_le_lld hs
    | exact mx_le_qld hs
    | exact mx_le_ast _ _ hs
    | exact mx_le_lst hs
    | exact mx_le_qst hs
    | exact mx_le_alen hs
    | exact mx_le_gf _ _ hs
    | exact mx_le_pf _ _ _ hs
    | exact mx_le_nw _ _ hs
    | exact mx_le_na _ hs
    | exact mx_le_nq _ _ hs
    | exact mx_le_cc _ _ hs
    | exact mx_le_io _ _ hs
    | exact mx_le_dv _ hs
    | exact mx_le_ldv hs
    | exact mx_le_bst hs
    | exact mx_le_lc _ _ hs
    | exact mx_le_lcw _ _ hs
    | exact mx_le_lc2 _ _ hs
    | cases hs
theorem mx_prim_le {k : Nat} {args : List Value} {h h' : mx_H} {v : Option Value} (hs : mx_prim k args h = some (v, h')) : mx_qle h.1 h'.1 := by
  unfold mx_prim at hs
  (repeat' split at hs) <;> first
    | (cases hs; exact mx_qle.rf _)
    | cases hs
    | (obtain ⟨l, -, e⟩ := Option.map_eq_some_iff.mp hs; cases e; exact mx_qle.rf _)
    | (obtain ⟨l, -, e⟩ := Option.bind_eq_some_iff.mp hs; split at e; (cases e; exact mx_qle.rf _); cases e)
def mx_Rle (q : mx_Q) (z : Option mx_R ⊕ mx_X) : Prop := match z with
  | .inl none => True
  | .inl (some r) => mx_qle q r.2.1
  | .inr x => mx_qle q x.2.2.2.2.2.1
def mx_Nle (q : mx_Q) (z : mx_N mx_X mx_R) : Prop := match z with
  | .inl none => True
  | .inl (some r) => mx_qle q r.2.1
  | .inr (.inl x) => mx_qle q x.2.2.2.2.2.1
  | .inr (.inr (x, k)) => mx_qle q x.2.2.2.2.2.1 ∧ ∀ r, mx_Rle r.2.1 (k r)
theorem mx_thr_le (d y pc : Nat) (lo : mx_L) (q : Value) (h : mx_H) : mx_Rle h.1 (mx_thr d y pc lo q h) := by
  unfold mx_thr
  split
  · split
    · exact mx_qle.rf _
    · exact mx_qle.rf _
  · trivial
theorem mx_up_le {q : mx_Q} {z : Option mx_R ⊕ mx_X} (h : mx_Rle q z) : mx_Nle q (mx_up z) := by
  rcases z with (_ | r) | x
  · trivial
  · exact h
  · exact h
theorem mx_Rle.tr {q q' : mx_Q} {z : Option mx_R ⊕ mx_X} (h : mx_qle q q') (hz : mx_Rle q' z) : mx_Rle q z := by
  rcases z with (_ | r) | x
  · trivial
  · exact h.tr hz
  · exact h.tr hz
theorem mx_thr8_le (r : List Value) (d y pc : Nat) (lo : mx_L) (q : Value) (h : mx_H) : mx_Rle h.1 (mx_thr8 r d y pc lo q (mx_vmx h)) := by
  unfold mx_thr8
  split
  · trivial
  · exact mx_Rle.tr (mx_qle_bump _ _ _) (mx_thr_le _ _ _ _ _ _)
theorem mx_call_le (d y pc np oc j : Nat) (lo : mx_L) (st : List Value) (h : mx_H) : mx_Nle h.1 (mx_call d y pc np oc j lo st h) := by
  unfold mx_call
  split
  · trivial
  · split
    · trivial
    · split
      · trivial
      · split
        · trivial
        · split
          · split
            · rename_i hp
              exact mx_prim_le hp
            · trivial
          · split
            · trivial
            · split
              · trivial
              · refine ⟨mx_qle.rf _, fun r => ?_⟩
                rcases r with ⟨v | q, h'⟩
                · exact mx_qle.rf _
                · exact mx_thr_le _ _ _ _ _ _
theorem mx_nxi_le (d y pc np : Nat) (lo : mx_L) (st : List Value) (h : mx_H) (i : Instr) : mx_Nle h.1 (mx_nxi d y pc np lo st h i) := by
  unfold mx_nxi
  split
  all_goals first
    | exact mx_call_le _ _ _ _ _ _ _ _ _
    | exact mx_qle.rf _
    | (split <;> first
        | exact mx_qle.rf _
        | trivial
        | exact mx_up_le (mx_thr_le _ _ _ _ _ _)
        | (rename_i hs; exact mx_sim_le hs)
        | (split <;> first
            | exact mx_qle.rf _
            | trivial
            | exact mx_up_le (mx_thr8_le _ _ _ _ _ _ _)
            | (split <;> first
                | exact mx_qle.rf _
                | trivial
                | (rename_i hs; exact mx_le_na _ hs)
                | exact mx_up_le (mx_thr8_le _ _ _ _ _ _ _))))
theorem mx_nx_le (x : mx_X) : mx_Nle x.2.2.2.2.2.1 (mx_nx x) := by
  unfold mx_nx
  split
  · trivial
  · exact mx_nxi_le _ _ _ _ _ _ _ _
theorem mx_run_qle : ∀ (n : Nat) (x : mx_X) (r : mx_R), mx_run mx_nx n x = some r → mx_qle x.2.2.2.2.2.1 r.2.1
  | 0, _, _, h => by cases h
  | n + 1, x, r, h => by
    have h : mx_stp (mx_run mx_nx n) (mx_nx x) = some r := h
    have hl := mx_nx_le x
    revert h hl
    generalize mx_nx x = z
    intro h hl
    rcases z with (_ | r0) | x1 | ⟨x1, k⟩
    · cases h
    · cases h; exact hl
    · exact hl.tr (mx_run_qle n x1 r h)
    · obtain ⟨r1, e1, e2⟩ := Option.bind_eq_some_iff.mp h
      have h1 := hl.1.tr (mx_run_qle n x1 r1 e1)
      have h2 := hl.2 r1
      revert e2 h2
      cases k r1 with
      | inl r' =>
        intro e2 h2
        have e2 : r' = some r := e2
        subst e2
        exact h1.tr h2
      | inr x' =>
        intro e2 h2
        exact h1.tr (mx_qle.tr h2 (mx_run_qle n x' r e2))
