/-! one straight instruction -/
/-- the names of what a cast aims at, and of what is cast -/
def mx_tnm (t : Nat) : String := if t = 36 then "ColdBox$Tells" else if t = 100 then "[I" else if t = 101 then "[B" else if t = 102 then "[S" else if t = 103 then "[J" else mx_cls t
def mx_TOK : Prop :=
  (∀ o i c k, mx_fld o i c = some k → mx_FOK o i c k) ∧ (∀ o i c, mx_newc o i = some c → mx_NOK o i c) ∧ (∀ o i t, mx_anewc o i = some t → mx_QOK o i t) ∧
  (∀ o i v, mx_ldcT.lookup (o, i) = some v → Cond.constant (mx_cls o) i v ∈ lw_all) ∧ (∀ o i v, mx_ldc2.lookup (o, i) = some v → Cond.constantLong (mx_cls o) i v ∈ lw_all) ∧
  (∀ k t, mx_astOK k t = true → 5 ≤ t ∧ t < 11 ∧ t ≠ 7 ∧ ∃ (r : vw_C) (C : String), mx_cl[k]? = some r ∧ mx_tyL[t]? = some (.object C) ∧ (r.1 = C ∨ Cond.castable r.1 C ∈ lw_tbl)) ∧
  (∀ o i t, mx_tgt o i = some t → Cond.classLink (mx_cls o) i (mx_tnm t) ∈ lw_all) ∧
  (∀ a t z, mx_aty a = some (t, z) → Cond.arrayClass (mx_tyL.getD t .int) ∈ lw_all)
/-- what holds of the tables all through a run: at s, for the words of any start -/
def mx_Tb (D : va_G) (cas : Nat → ClassId) (x : Nat → Nat → Prop) (s : State) : Prop :=
  (∀ w ∈ lw_tbl, mx_side w = true → va_Nw w s) ∧ va_K D mx_cl (mx_tys cas) s ∧
  (∀ k t, mx_cast k t = some false → va_Nc (mx_tnm k) (mx_tnm t) s) ∧ (∀ k t, mx_cast k t = some true → k = t ∨ va_Nw (.castable (mx_tnm k) (mx_tnm t)) s) ∧
  (∀ o i k, mx_ldcs.lookup (o, i) = some k → k < 18 ∧ ∃ (tx : String) (q : Nat), vk_R (mx_cls o) i tx q s ∧ x k q)
/-- what the heap holds beside the entries: the script, the Strings -/
def mx_Hb (x : Nat → Nat → Prop) (A0 : Nat → Prop) (E : Nat × (Nat → Int32)) (s : State) (H : Heap) : Prop :=
  (∀ b, x 1000 b → va_X b E.1 E.2 s H ∧ ¬ A0 b ∧ b < H.size) ∧ (∀ k q, k < 18 → x k q → ∃ cell : Cell, H[q]? = some cell ∧ cell.vm.isStatics = false ∧ s.vm.findClass "java/lang/String" = some cell.cls ∧ ¬ A0 q)
theorem va_RA.inj {U : State} {c1 c2 : ClassId} {ty : FieldType} (h1 : va_RA U c1 ty) (h2 : va_RA U c2 ty) : c1 = c2 := by
  unfold va_RA at h1 h2
  cases ty with
  | object C =>
    obtain ⟨_, _, -, -, -, e1⟩ := h1
    obtain ⟨_, _, -, -, -, e2⟩ := h2
    exact Option.some.inj (e1.symm.trans e2)
  | _ => exact Option.some.inj (Eq.trans (Eq.symm h1) h2)
section MXI
variable {p : Program} {l : Launch} {e : Env} {R : Room} {s : State} {m : MethodId} {args : Array Value} {below : List Frame} {meth : Method} {c : Code} {Q : State → Prop}
variable {D : va_G} {cas : Nat → ClassId} {x : Nat → Nat → Prop} {A0 : Nat → Prop} {H0 : Heap} {L0 : List Nat} {nL c0 k0 : Nat} {cc : ByteArray} {pc : Nat} {o : Nat} {ini : Bool} {pc' : Nat} {S S' : mx_S} {f : Int32 → Int32 → Int32}
/-- wherever a machine's frame stands for this abstract state, the run goes on to Q -/
def mx_G (p : Program) (l : Launch) (e : Env) (R : Room) (s : State) (m : MethodId) (args : Array Value) (below : List Frame) (meth : Method) (c : Code) (Q : State → Prop) (D : va_G) (cas : Nat → ClassId) (x : Nat → Nat → Prop) (A0 : Nat → Prop) (H0 : Heap) (L0 : List Nat) (nL c0 k0 : Nat) (pc : Nat) (S : mx_S) : Prop :=
  ∀ (L : List Nat) (E : List va_E) (lc : mx_L) (ls : Array Slot) (st' : List Value) (H : Heap) (locs : List Loc) (cells slots : Nat), (∃ M, L = L0 ++ M) → mx_Hr D cas x A0 L E S.2.2.2 H → mx_OL (fun q => L[q]?) x S.1 lc → mx_LS ls lc → lc.length = nL → mx_VL (fun q => L[q]?) x S.2.1 st' → va_S A0 H0 H locs →
    c0 + cells = S.2.2.1.2.1 → k0 + slots = S.2.2.1.2.2 → W p l e R s m args below meth c H locs cells slots Q (F0 m pc ls st')
/-- a row without a look at the heap: the stack from v.. to w.. -/
theorem mx_g_row {lo : mx_L} {st st1 : List Value} {h : mx_H} {pc' : Nat} (row : ∀ (L : List Nat) (H : Heap) (locs : List Loc) (cells slots : Nat) (lc : mx_L) (ls : Array Slot) (st' : List Value), mx_OL (fun q => L[q]?) x lo lc → mx_LS ls lc → mx_VL (fun q => L[q]?) x st st' → ∃ st1', mx_VL (fun q => L[q]?) x st1 st1' ∧ (W p l e R s m args below meth c H locs cells slots Q (F0 m pc' ls st1') → W p l e R s m args below meth c H locs cells slots Q (F0 m pc ls st')))
    (k : mx_G p l e R s m args below meth c Q D cas x A0 H0 L0 nL c0 k0 pc' (lo, st1, h)) : mx_G p l e R s m args below meth c Q D cas x A0 H0 L0 nL c0 k0 pc (lo, st, h) := by
  intro L E lc ls st' H locs cells slots hL hH hO hLS hn hV hS hc hk
  obtain ⟨st1', h1, h2⟩ := row L H locs cells slots lc ls st' hO hLS hV
  exact h2 (k L E lc ls st1' H locs cells slots hL hH hO hLS hn h1 hS hc hk)
theorem mx_k_push {v : Value} (hs : mx_push v S = some S') (hv : ∀ (g : Nat → Option Nat), ∃ v', mx_V g x v v' ∧ ∀ (H : Heap) (locs : List Loc) (cells slots : Nat) (ls : Array Slot) (r : List Value), W p l e R s m args below meth c H locs cells slots Q (F0 m pc' ls (v' :: r)) → W p l e R s m args below meth c H locs cells slots Q (F0 m pc ls r))
    (k : mx_G p l e R s m args below meth c Q D cas x A0 H0 L0 nL c0 k0 pc' S') : mx_G p l e R s m args below meth c Q D cas x A0 H0 L0 nL c0 k0 pc S := by
  obtain ⟨lo, st, h⟩ := S
  cases hs
  refine mx_g_row (fun L H locs cells slots lc ls st' hO hLS hV => ?_) k
  obtain ⟨v', h1, h2⟩ := hv (fun q => L[q]?)
  exact ⟨v' :: st', ⟨v', st', rfl, h1, hV⟩, h2 H locs cells slots ls st'⟩
theorem mx_k_ii (hs : mx_ii f S = some S') (row : ∀ (H : Heap) (locs : List Loc) (cells slots : Nat) (ls : Array Slot) (r : List Value) (a b : Int32), W p l e R s m args below meth c H locs cells slots Q (F0 m pc' ls (.int (f a b) :: r)) → W p l e R s m args below meth c H locs cells slots Q (F0 m pc ls (.int b :: .int a :: r)))
    (k : mx_G p l e R s m args below meth c Q D cas x A0 H0 L0 nL c0 k0 pc' S') : mx_G p l e R s m args below meth c Q D cas x A0 H0 L0 nL c0 k0 pc S := by
  obtain ⟨lo, st, h⟩ := S
  unfold mx_ii at hs
  dsimp only at hs
  split at hs
  · rename_i b a r
    cases hs
    refine mx_g_row (fun L H locs cells slots lc ls st' hO hLS hV => ?_) k
    obtain ⟨_, _, rfl, h1, _, r', rfl, h2, h3⟩ := hV
    have h1 : _ = Value.int b := h1
    have h2 : _ = Value.int a := h2
    subst h1; subst h2
    exact ⟨_, ⟨_, _, rfl, rfl, h3⟩, row H locs cells slots ls r' a b⟩
  · cases hs
theorem mx_k_ll {f : Int64 → Int64 → Int64} (hs : mx_ll f S = some S') (row : ∀ (H : Heap) (locs : List Loc) (cells slots : Nat) (ls : Array Slot) (r : List Value) (a b : Int64), W p l e R s m args below meth c H locs cells slots Q (F0 m pc' ls (.long (f a b) :: r)) → W p l e R s m args below meth c H locs cells slots Q (F0 m pc ls (.long b :: .long a :: r)))
    (k : mx_G p l e R s m args below meth c Q D cas x A0 H0 L0 nL c0 k0 pc' S') : mx_G p l e R s m args below meth c Q D cas x A0 H0 L0 nL c0 k0 pc S := by
  obtain ⟨lo, st, h⟩ := S
  unfold mx_ll at hs
  dsimp only at hs
  split at hs
  · rename_i b a r
    cases hs
    refine mx_g_row (fun L H locs cells slots lc ls st' hO hLS hV => ?_) k
    obtain ⟨_, _, rfl, h1, _, r', rfl, h2, h3⟩ := hV
    have h1 : _ = Value.long b := h1
    have h2 : _ = Value.long a := h2
    subst h1; subst h2
    exact ⟨_, ⟨_, _, rfl, rfl, h3⟩, row H locs cells slots ls r' a b⟩
  · cases hs
theorem mx_k_li {f : Int64 → Int32 → Int64} (hs : mx_li f S = some S') (row : ∀ (H : Heap) (locs : List Loc) (cells slots : Nat) (ls : Array Slot) (r : List Value) (a : Int64) (b : Int32), W p l e R s m args below meth c H locs cells slots Q (F0 m pc' ls (.long (f a b) :: r)) → W p l e R s m args below meth c H locs cells slots Q (F0 m pc ls (.int b :: .long a :: r)))
    (k : mx_G p l e R s m args below meth c Q D cas x A0 H0 L0 nL c0 k0 pc' S') : mx_G p l e R s m args below meth c Q D cas x A0 H0 L0 nL c0 k0 pc S := by
  obtain ⟨lo, st, h⟩ := S
  unfold mx_li at hs
  dsimp only at hs
  split at hs
  · rename_i b a r
    cases hs
    refine mx_g_row (fun L H locs cells slots lc ls st' hO hLS hV => ?_) k
    obtain ⟨_, _, rfl, h1, _, r', rfl, h2, h3⟩ := hV
    have h1 : _ = Value.int b := h1
    have h2 : _ = Value.long a := h2
    subst h1; subst h2
    exact ⟨_, ⟨_, _, rfl, rfl, h3⟩, row H locs cells slots ls r' a b⟩
  · cases hs
theorem mx_k_i1 {f : Int32 → Value} (hs : mx_i1 f S = some S') (hf : ∀ (g : Nat → Option Nat) a, mx_V g x (f a) (f a)) (row : ∀ (H : Heap) (locs : List Loc) (cells slots : Nat) (ls : Array Slot) (r : List Value) (a : Int32), W p l e R s m args below meth c H locs cells slots Q (F0 m pc' ls (f a :: r)) → W p l e R s m args below meth c H locs cells slots Q (F0 m pc ls (.int a :: r)))
    (k : mx_G p l e R s m args below meth c Q D cas x A0 H0 L0 nL c0 k0 pc' S') : mx_G p l e R s m args below meth c Q D cas x A0 H0 L0 nL c0 k0 pc S := by
  obtain ⟨lo, st, h⟩ := S
  unfold mx_i1 at hs
  dsimp only at hs
  split at hs
  · rename_i a r
    cases hs
    refine mx_g_row (fun L H locs cells slots lc ls st' hO hLS hV => ?_) k
    obtain ⟨_, r', rfl, h1, h3⟩ := hV
    have h1 : _ = Value.int a := h1
    subst h1
    exact ⟨_, ⟨_, _, rfl, hf _ a, h3⟩, row H locs cells slots ls r' a⟩
  · cases hs
theorem mx_k_l1 {f : Int64 → Value} (hs : mx_l1 f S = some S') (hf : ∀ (g : Nat → Option Nat) a, mx_V g x (f a) (f a)) (row : ∀ (H : Heap) (locs : List Loc) (cells slots : Nat) (ls : Array Slot) (r : List Value) (a : Int64), W p l e R s m args below meth c H locs cells slots Q (F0 m pc' ls (f a :: r)) → W p l e R s m args below meth c H locs cells slots Q (F0 m pc ls (.long a :: r)))
    (k : mx_G p l e R s m args below meth c Q D cas x A0 H0 L0 nL c0 k0 pc' S') : mx_G p l e R s m args below meth c Q D cas x A0 H0 L0 nL c0 k0 pc S := by
  obtain ⟨lo, st, h⟩ := S
  unfold mx_l1 at hs
  dsimp only at hs
  split at hs
  · rename_i a r
    cases hs
    refine mx_g_row (fun L H locs cells slots lc ls st' hO hLS hV => ?_) k
    obtain ⟨_, r', rfl, h1, h3⟩ := hV
    have h1 : _ = Value.long a := h1
    subst h1
    exact ⟨_, ⟨_, _, rfl, hf _ a, h3⟩, row H locs cells slots ls r' a⟩
  · cases hs
end MXI
section MXJ
variable {p : Program} {l : Launch} {e : Env} {R : Room} {s : State} {m : MethodId} {args : Array Value} {below : List Frame} {meth : Method} {c : Code} {Q : State → Prop}
variable {D : va_G} {cas : Nat → ClassId} {x : Nat → Nat → Prop} {A0 : Nat → Prop} {H0 : Heap} {L0 : List Nat} {nL c0 k0 : Nat} {cc : ByteArray} {pc pc' : Nat} {o : Nat} {ini : Bool} {S S' : mx_S}
theorem mx_k_lcmp (hx : p.tables.exec = Jvm.exec) (hb : c.code = cc) (hd : decode cc pc = .ok (.lcmp, 1)) (hs : mx_lcmp S = some S')
    (k : mx_G p l e R s m args below meth c Q D cas x A0 H0 L0 nL c0 k0 (pc + 1) S') : mx_G p l e R s m args below meth c Q D cas x A0 H0 L0 nL c0 k0 pc S := by
  obtain ⟨lo, st, h⟩ := S
  unfold mx_lcmp at hs
  dsimp only at hs
  split at hs
  · rename_i b a r
    cases hs
    refine mx_g_row (fun L H locs cells slots lc ls st' hO hLS hV => ?_) k
    obtain ⟨_, _, rfl, h1, _, r', rfl, h2, h3⟩ := hV
    have h1 : _ = Value.long b := h1
    have h2 : _ = Value.long a := h2
    subst h1; subst h2
    exact ⟨_, ⟨_, _, rfl, rfl, h3⟩, fun kk => W.lcmp hx hb hd kk⟩
  · cases hs
theorem mx_k_dv {f : Int32 → Int32 → Int32} (hs : mx_dv f S = some S') (row : ∀ (H : Heap) (locs : List Loc) (cells slots : Nat) (ls : Array Slot) (r : List Value) (a b : Int32), ¬ b = 0 → W p l e R s m args below meth c H locs cells slots Q (F0 m pc' ls (.int (f a b) :: r)) → W p l e R s m args below meth c H locs cells slots Q (F0 m pc ls (.int b :: .int a :: r)))
    (k : mx_G p l e R s m args below meth c Q D cas x A0 H0 L0 nL c0 k0 pc' S') : mx_G p l e R s m args below meth c Q D cas x A0 H0 L0 nL c0 k0 pc S := by
  obtain ⟨lo, st, h⟩ := S
  unfold mx_dv at hs
  dsimp only at hs
  split at hs
  · rename_i b a r
    split at hs
    · cases hs
    · rename_i hb0
      cases hs
      refine mx_g_row (fun L H locs cells slots lc ls st' hO hLS hV => ?_) k
      obtain ⟨_, _, rfl, h1, _, r', rfl, h2, h3⟩ := hV
      have h1 : _ = Value.int b := h1
      have h2 : _ = Value.int a := h2
      subst h1; subst h2
      exact ⟨_, ⟨_, _, rfl, rfl, h3⟩, row H locs cells slots ls r' a b hb0⟩
  · cases hs
theorem mx_k_ldv (hx : p.tables.exec = Jvm.exec) (hb : c.code = cc) (hd : decode cc pc = .ok (.ldiv, 1)) (hs : mx_ldv S = some S')
    (k : mx_G p l e R s m args below meth c Q D cas x A0 H0 L0 nL c0 k0 (pc + 1) S') : mx_G p l e R s m args below meth c Q D cas x A0 H0 L0 nL c0 k0 pc S := by
  obtain ⟨lo, st, h⟩ := S
  unfold mx_ldv at hs
  dsimp only at hs
  split at hs
  · rename_i b a r
    split at hs
    · cases hs
    · rename_i hb0
      cases hs
      refine mx_g_row (fun L H locs cells slots lc ls st' hO hLS hV => ?_) k
      obtain ⟨_, _, rfl, h1, _, r', rfl, h2, h3⟩ := hV
      have h1 : _ = Value.long b := h1
      have h2 : _ = Value.long a := h2
      subst h1; subst h2
      exact ⟨_, ⟨_, _, rfl, rfl, h3⟩, fun kk => lv_ldiv hx hb hd hb0 kk⟩
  · cases hs
/-! locals -/
theorem mx_k_ldI {kk : Nat} (hs : mx_ldI kk S = some S') (row : ∀ (H : Heap) (locs : List Loc) (cells slots : Nat) (ls : Array Slot) (r : List Value) (a : Int32), ls[kk]? = some (.val (.int a)) → W p l e R s m args below meth c H locs cells slots Q (F0 m pc' ls (.int a :: r)) → W p l e R s m args below meth c H locs cells slots Q (F0 m pc ls r))
    (k : mx_G p l e R s m args below meth c Q D cas x A0 H0 L0 nL c0 k0 pc' S') : mx_G p l e R s m args below meth c Q D cas x A0 H0 L0 nL c0 k0 pc S := by
  obtain ⟨lo, st, h⟩ := S
  unfold mx_ldI at hs
  dsimp only at hs
  split at hs
  · rename_i a hl
    cases hs
    refine mx_g_row (fun L H locs cells slots lc ls st' hO hLS hV => ?_) k
    obtain ⟨v', h1, h2⟩ := hO.at kk hl
    have h2 : v' = Value.int a := h2
    subst h2
    exact ⟨_, ⟨_, _, rfl, rfl, hV⟩, row H locs cells slots ls st' a (hLS.at h1)⟩
  · cases hs
theorem mx_k_ldL {kk : Nat} (hs : mx_ldL kk S = some S') (row : ∀ (H : Heap) (locs : List Loc) (cells slots : Nat) (ls : Array Slot) (r : List Value) (a : Int64), ls[kk]? = some (.val (.long a)) → W p l e R s m args below meth c H locs cells slots Q (F0 m pc' ls (.long a :: r)) → W p l e R s m args below meth c H locs cells slots Q (F0 m pc ls r))
    (k : mx_G p l e R s m args below meth c Q D cas x A0 H0 L0 nL c0 k0 pc' S') : mx_G p l e R s m args below meth c Q D cas x A0 H0 L0 nL c0 k0 pc S := by
  obtain ⟨lo, st, h⟩ := S
  unfold mx_ldL at hs
  dsimp only at hs
  split at hs
  · rename_i a hl
    cases hs
    refine mx_g_row (fun L H locs cells slots lc ls st' hO hLS hV => ?_) k
    obtain ⟨v', h1, h2⟩ := hO.at kk hl
    have h2 : v' = Value.long a := h2
    subst h2
    exact ⟨_, ⟨_, _, rfl, rfl, hV⟩, row H locs cells slots ls st' a (hLS.at h1)⟩
  · cases hs
theorem mx_k_ldA {kk : Nat} (hs : mx_ldA kk S = some S') (row : ∀ (H : Heap) (locs : List Loc) (cells slots : Nat) (ls : Array Slot) (r : List Value) (a : Nat), ls[kk]? = some (.val (.ref a)) → W p l e R s m args below meth c H locs cells slots Q (F0 m pc' ls (.ref a :: r)) → W p l e R s m args below meth c H locs cells slots Q (F0 m pc ls r))
    (rowN : ∀ (H : Heap) (locs : List Loc) (cells slots : Nat) (ls : Array Slot) (r : List Value), ls[kk]? = some (.val .null) → W p l e R s m args below meth c H locs cells slots Q (F0 m pc' ls (.null :: r)) → W p l e R s m args below meth c H locs cells slots Q (F0 m pc ls r))
    (k : mx_G p l e R s m args below meth c Q D cas x A0 H0 L0 nL c0 k0 pc' S') : mx_G p l e R s m args below meth c Q D cas x A0 H0 L0 nL c0 k0 pc S := by
  obtain ⟨lo, st, h⟩ := S
  unfold mx_ldA at hs
  dsimp only at hs
  split at hs
  · rename_i a hl
    cases hs
    refine mx_g_row (fun L H locs cells slots lc ls st' hO hLS hV => ?_) k
    obtain ⟨v', h1, h2⟩ := hO.at kk hl
    obtain ⟨b, h3, h4⟩ := h2
    subst h3
    exact ⟨_, ⟨_, _, rfl, ⟨b, rfl, h4⟩, hV⟩, row H locs cells slots ls st' b (hLS.at h1)⟩
  · rename_i hl
    cases hs
    refine mx_g_row (fun L H locs cells slots lc ls st' hO hLS hV => ?_) k
    obtain ⟨v', h1, h2⟩ := hO.at kk hl
    have h2 : v' = Value.null := h2
    subst h2
    exact ⟨_, ⟨_, _, rfl, rfl, hV⟩, rowN H locs cells slots ls st' (hLS.at h1)⟩
  · rename_i a hl
    cases hs
    refine mx_g_row (fun L H locs cells slots lc ls st' hO hLS hV => ?_) k
    obtain ⟨v', h1, h2⟩ := hO.at kk hl
    obtain ⟨b, h3, h4⟩ := h2
    subst h3
    exact ⟨_, ⟨_, _, rfl, ⟨b, rfl, h4⟩, hV⟩, row H locs cells slots ls st' b (hLS.at h1)⟩
  · cases hs
/-- a store into one local -/
theorem mx_g_st1 {lo : mx_L} {st : List Value} {h : mx_H} {kk : Nat} {v : Value} (hk : kk < lo.length) (row : ∀ (g : Nat → Option Nat) (H : Heap) (locs : List Loc) (cells slots : Nat) (ls : Array Slot) (r : List Value) (lv : List (Nat × Value)) (n : Nat) (v' : Value), mx_V g x v v' → lv_has ls n lv → kk < n → (∀ ls' : Array Slot, lv_has ls' n ((kk, v') :: lv.filter (fun q => !(q.1 == kk) && !(q.1 + 1 == kk && q.2.category == 2))) → W p l e R s m args below meth c H locs cells slots Q (F0 m pc' ls' r)) → W p l e R s m args below meth c H locs cells slots Q (F0 m pc ls (v' :: r)))
    (k : mx_G p l e R s m args below meth c Q D cas x A0 H0 L0 nL c0 k0 pc' (mx_st1 lo kk v, st, h)) : mx_G p l e R s m args below meth c Q D cas x A0 H0 L0 nL c0 k0 pc (lo, v :: st, h) := by
  intro L E lc ls st' H locs cells slots hL hH hO hLS hn hV hS hc hk0
  obtain ⟨v', r', rfl, h1, h2⟩ := hV
  refine row _ H locs cells slots ls r' (mx_lv 0 lc) lc.length v' h1 hLS (by rw [hO.len]; exact hk) fun ls' hl' => ?_
  exact k L E (mx_st1 lc kk v') ls' r' H locs cells slots hL hH (hO.st1 kk h1) (mx_LS.st1 hl') (by rw [mx_st1_len]; exact hn) h2 hS hc hk0
theorem mx_k_stI {kk : Nat} (hs : mx_stI kk S = some S') (row : ∀ (H : Heap) (locs : List Loc) (cells slots : Nat) (ls : Array Slot) (r : List Value) (lv : List (Nat × Value)) (n : Nat) (a : Int32), lv_has ls n lv → kk < n → (∀ ls' : Array Slot, lv_has ls' n ((kk, .int a) :: lv.filter (fun q => !(q.1 == kk) && !(q.1 + 1 == kk && q.2.category == 2))) → W p l e R s m args below meth c H locs cells slots Q (F0 m pc' ls' r)) → W p l e R s m args below meth c H locs cells slots Q (F0 m pc ls (.int a :: r)))
    (k : mx_G p l e R s m args below meth c Q D cas x A0 H0 L0 nL c0 k0 pc' S') : mx_G p l e R s m args below meth c Q D cas x A0 H0 L0 nL c0 k0 pc S := by
  obtain ⟨lo, st, h⟩ := S
  unfold mx_stI at hs
  dsimp only at hs
  split at hs
  · rename_i a r
    split at hs
    · rename_i hl
      cases hs
      refine mx_g_st1 hl (fun g H locs cells slots ls r lv n v' hv h1 h2 kk' => ?_) k
      have hv : v' = Value.int a := hv
      subst hv
      exact row H locs cells slots ls r lv n a h1 h2 kk'
    · cases hs
  · cases hs
theorem mx_k_stA {kk : Nat} (hs : mx_stA kk S = some S') (row : ∀ (H : Heap) (locs : List Loc) (cells slots : Nat) (ls : Array Slot) (r : List Value) (lv : List (Nat × Value)) (n : Nat) (a : Nat), lv_has ls n lv → kk < n → (∀ ls' : Array Slot, lv_has ls' n ((kk, .ref a) :: lv.filter (fun q => !(q.1 == kk) && !(q.1 + 1 == kk && q.2.category == 2))) → W p l e R s m args below meth c H locs cells slots Q (F0 m pc' ls' r)) → W p l e R s m args below meth c H locs cells slots Q (F0 m pc ls (.ref a :: r)))
    (rowN : ∀ (H : Heap) (locs : List Loc) (cells slots : Nat) (ls : Array Slot) (r : List Value) (lv : List (Nat × Value)) (n : Nat), lv_has ls n lv → kk < n → (∀ ls' : Array Slot, lv_has ls' n ((kk, .null) :: lv.filter (fun q => !(q.1 == kk) && !(q.1 + 1 == kk && q.2.category == 2))) → W p l e R s m args below meth c H locs cells slots Q (F0 m pc' ls' r)) → W p l e R s m args below meth c H locs cells slots Q (F0 m pc ls (.null :: r)))
    (k : mx_G p l e R s m args below meth c Q D cas x A0 H0 L0 nL c0 k0 pc' S') : mx_G p l e R s m args below meth c Q D cas x A0 H0 L0 nL c0 k0 pc S := by
  obtain ⟨lo, st, h⟩ := S
  unfold mx_stA at hs
  dsimp only at hs
  split at hs
  · split at hs
    · rename_i hl
      cases hs
      refine mx_g_st1 hl (fun g H locs cells slots ls r lv n v' hv h1 h2 kk' => ?_) k
      obtain ⟨b, h3, -⟩ := hv
      subst h3
      exact row H locs cells slots ls r lv n b h1 h2 kk'
    · cases hs
  · split at hs
    · rename_i hl
      cases hs
      refine mx_g_st1 hl (fun g H locs cells slots ls r lv n v' hv h1 h2 kk' => ?_) k
      have hv : v' = Value.null := hv
      subst hv
      exact rowN H locs cells slots ls r lv n h1 h2 kk'
    · cases hs
  · split at hs
    · rename_i hl
      cases hs
      refine mx_g_st1 hl (fun g H locs cells slots ls r lv n v' hv h1 h2 kk' => ?_) k
      obtain ⟨b, h3, -⟩ := hv
      subst h3
      exact row H locs cells slots ls r lv n b h1 h2 kk'
    · cases hs
  · cases hs
theorem mx_k_stL {kk : Nat} (hs : mx_stL kk S = some S') (row : ∀ (H : Heap) (locs : List Loc) (cells slots : Nat) (ls : Array Slot) (r : List Value) (lv : List (Nat × Value)) (n : Nat) (a : Int64), lv_has ls n lv → kk + 1 < n → (∀ ls' : Array Slot, lv_has ls' n ((kk, .long a) :: lv.filter (fun q => !(q.1 == kk) && (!(q.1 == kk + 1) && !(q.1 + 1 == kk && q.2.category == 2)))) → W p l e R s m args below meth c H locs cells slots Q (F0 m pc' ls' r)) → W p l e R s m args below meth c H locs cells slots Q (F0 m pc ls (.long a :: r)))
    (k : mx_G p l e R s m args below meth c Q D cas x A0 H0 L0 nL c0 k0 pc' S') : mx_G p l e R s m args below meth c Q D cas x A0 H0 L0 nL c0 k0 pc S := by
  obtain ⟨lo, st, h⟩ := S
  unfold mx_stL at hs
  dsimp only at hs
  split at hs
  · rename_i a r
    split at hs
    · rename_i hl
      cases hs
      intro L E lc ls st' H locs cells slots hL hH hO hLS hn hV hS hc hk0
      obtain ⟨v', r', rfl, h1, h2⟩ := hV
      have h1' : v' = Value.long a := h1
      subst h1'
      refine row H locs cells slots ls r' (mx_lv 0 lc) lc.length a hLS (by rw [hO.len]; exact hl) fun ls' hl' => ?_
      exact k L E (mx_st2 lc kk (.long a)) ls' r' H locs cells slots hL hH (hO.st2 kk h1) (mx_LS.st2 hl') (by rw [mx_st2_len]; exact hn) h2 hS hc hk0
    · cases hs
  · cases hs
theorem mx_k_inc {kk : Nat} {n : Int} (hx : p.tables.exec = Jvm.exec) (hb : c.code = cc) (hd : decode cc pc = .ok (.iinc kk n, 3)) (hs : mx_inc kk n S = some S')
    (k : mx_G p l e R s m args below meth c Q D cas x A0 H0 L0 nL c0 k0 (pc + 3) S') : mx_G p l e R s m args below meth c Q D cas x A0 H0 L0 nL c0 k0 pc S := by
  obtain ⟨lo, st, h⟩ := S
  unfold mx_inc at hs
  dsimp only at hs
  split at hs
  · rename_i a hl
    cases hs
    intro L E lc ls st' H locs cells slots hL hH hO hLS hn hV hS hc hk0
    obtain ⟨v', h1, h2⟩ := hO.at kk hl
    have h2 : v' = Value.int a := h2
    subst h2
    obtain ⟨j, hj⟩ := List.getElem?_of_mem ((mx_lv_mem lc 0 kk _).mpr ⟨kk, by omega, h1⟩)
    refine lv_iinc (k := j) hx hb hd hLS hj rfl (List.getElem?_eq_some_iff.mp h1).1 rfl fun ls' hl' => ?_
    exact k L E (mx_st1 lc kk (.int (a + Int32.ofInt n))) ls' st' H locs cells slots hL hH (hO.st1 kk rfl) (mx_LS.st1 hl') (by rw [mx_st1_len]; exact hn) hV hS hc hk0
  · cases hs
theorem mx_k_dup (hx : p.tables.exec = Jvm.exec) (hb : c.code = cc) (hd : decode cc pc = .ok (.dup, 1)) (hs : mx_dup S = some S')
    (k : mx_G p l e R s m args below meth c Q D cas x A0 H0 L0 nL c0 k0 (pc + 1) S') : mx_G p l e R s m args below meth c Q D cas x A0 H0 L0 nL c0 k0 pc S := by
  obtain ⟨lo, st, h⟩ := S
  unfold mx_dup at hs
  dsimp only at hs
  split at hs
  · rename_i v r
    split at hs
    · cases hs
    · rename_i hw
      cases hs
      refine mx_g_row (fun L H locs cells slots lc ls st' hO hLS hV => ?_) k
      obtain ⟨v', r', rfl, h1, h2⟩ := hV
      exact ⟨_, ⟨_, _, rfl, h1, _, _, rfl, h1, h2⟩, fun kk => lv_dup hx hb hd (by rw [mx_wd_cat, h1.wd, if_neg hw]) kk⟩
  · cases hs
theorem mx_k_dup2 (hx : p.tables.exec = Jvm.exec) (hb : c.code = cc) (hd : decode cc pc = .ok (.dup2, 1)) (hs : mx_dup2 S = some S')
    (k : mx_G p l e R s m args below meth c Q D cas x A0 H0 L0 nL c0 k0 (pc + 1) S') : mx_G p l e R s m args below meth c Q D cas x A0 H0 L0 nL c0 k0 pc S := by
  obtain ⟨lo, st, h⟩ := S
  unfold mx_dup2 at hs
  dsimp only at hs
  split at hs
  · rename_i v w r
    split at hs
    · cases hs
    · rename_i hw
      split at hs
      · cases hs
      · rename_i hw2
        cases hs
        refine mx_g_row (fun L H locs cells slots lc ls st' hO hLS hV => ?_) k
        obtain ⟨v', _, rfl, h1, w', r', rfl, h3, h2⟩ := hV
        exact ⟨_, ⟨_, _, rfl, h1, _, _, rfl, h3, _, _, rfl, h1, _, _, rfl, h3, h2⟩, fun kk => lv_dup2_11 hx hb hd (by rw [mx_wd_cat, h1.wd, if_neg hw]) (by rw [mx_wd_cat, h3.wd, if_neg hw2]) kk⟩
  · cases hs
end MXJ
/-! arrays, fields, new things -/
section MXK
variable {p : Program} {l : Launch} {e : Env} {R : Room} {s : State} {m : MethodId} {args : Array Value} {below : List Frame} {meth : Method} {c : Code} {Q : State → Prop}
variable {D : va_G} {cas : Nat → ClassId} {x : Nat → Nat → Prop} {A0 : Nat → Prop} {H0 : Heap} {L0 : List Nat} {nL c0 k0 : Nat} {cc : ByteArray} {pc pc' : Nat} {o : Nat} {ini : Bool} {S S' : mx_S}
theorem mx_arr_some {h : mx_H} {q : Nat} {z : Nat × Nat × mx_A} (e : mx_arr h q = some z) : h.2[q]? = some (.inl z) := by
  unfold mx_arr at e
  split at e
  · rename_i z' h1; cases e; exact h1
  · cases e
theorem mx_obj_some {h : mx_H} {q : Nat} {z : Nat × (Nat → Value)} (e : mx_obj h q = some z) : h.2[q]? = some (.inr z) := by
  unfold mx_obj at e
  split at e
  · rename_i z' h1; cases e; exact h1
  · cases e
/-- a load out of an array at place q: i on top -/
theorem mx_g_ald {lo : mx_L} {st : List Value} {h : mx_H} {q : Nat} {i : Int32} {v : Value} {z : Nat × Nat × mx_A} (hz : mx_arr h q = some z) (row : ∀ (L : List Nat) (E : List va_E) (H : Heap) (locs : List Loc) (cells slots : Nat) (ls : Array Slot) (r : List Value) (a : Nat) (e' : va_E), va_P D mx_cl (L.zip E) H → (L.zip E)[q]? = some (a, e') → mx_Ee (fun q => L[q]?) x cas (.inl z) e' → ∃ v', mx_V (fun q => L[q]?) x v v' ∧ (W p l e R s m args below meth c H locs cells slots Q (F0 m pc' ls (v' :: r)) → W p l e R s m args below meth c H locs cells slots Q (F0 m pc ls (.int i :: .ref a :: r))))
    (k : mx_G p l e R s m args below meth c Q D cas x A0 H0 L0 nL c0 k0 pc' (lo, v :: st, h)) : mx_G p l e R s m args below meth c Q D cas x A0 H0 L0 nL c0 k0 pc (lo, .int i :: .ref q :: st, h) := by
  intro L E lc ls st' H locs cells slots hL hH hO hLS hn hV hS hc hk0
  obtain ⟨_, _, rfl, h1, _, r', rfl, ⟨a, h2, ha⟩, h3⟩ := hV
  have h1 : _ = Value.int i := h1
  subst h1; subst h2
  obtain ⟨e', he, hzip, hE⟩ := hH.entry (mx_arr_some hz) ha
  obtain ⟨v', hv, hw⟩ := row L E H locs cells slots ls r' a e' hH.2.2.2.1 hzip hE
  exact hw (k L E lc ls (v' :: r') H locs cells slots hL hH hO hLS hn ⟨_, _, rfl, hv, h3⟩ hS hc hk0)
theorem mx_k_ald (hx : p.tables.exec = Jvm.exec) (hb : c.code = cc) (hK : va_K D mx_cl (mx_tys cas) s) (hd : decode cc pc = .ok (.iaload, 1)) (hbase : ∀ (H : Heap) (locs : List Loc), va_S A0 H0 H locs → ∀ b, x 1000 b → va_X b S.2.2.1.1.1 S.2.2.1.1.2 s H0 ∧ ¬ A0 b ∧ b < H0.size) (hs : mx_ald S = some S')
    (k : mx_G p l e R s m args below meth c Q D cas x A0 H0 L0 nL c0 k0 (pc + 1) S') : mx_G p l e R s m args below meth c Q D cas x A0 H0 L0 nL c0 k0 pc S := by
  obtain ⟨lo, st, h⟩ := S
  unfold mx_ald at hs
  dsimp only at hs
  split at hs
  · rename_i i n r
    split at hs
    · rename_i hc0
      obtain ⟨hn0, hin⟩ := hc0
      subst hn0
      cases hs
      intro L E lc ls st' H locs cells slots hL hH hO hLS hn hV hS hc hk0
      obtain ⟨_, _, rfl, h1, _, r', rfl, ⟨b, h2, hxb⟩, h3⟩ := hV
      have h1 : _ = Value.int i := h1
      subst h1; subst h2
      obtain ⟨hX, hbA, hbl⟩ := hbase H locs hS b hxb
      refine va_sld hx hb hX hbl hbA hS (mx_inb_iff.mp hin) hd ?_
      exact k L E lc ls _ H locs cells slots hL hH hO hLS hn ⟨_, _, rfl, rfl, h3⟩ hS hc hk0
    · cases hs
  · rename_i i q r
    split at hs
    · rename_i n f hz
      split at hs
      · rename_i hin
        cases hs
        refine mx_g_ald hz (fun L E H locs cells slots ls r a e' hP hzip hE => ?_) k
        obtain ⟨-, rfl⟩ := hE
        exact ⟨_, rfl, fun kk => va_iald hx hb hK hP q 0 hzip (mx_tys_at cas (by decide)) (mx_inb_iff.mp hin) hd kk⟩
      · cases hs
    · cases hs
  · cases hs
theorem mx_k_bld (hx : p.tables.exec = Jvm.exec) (hb : c.code = cc) (hK : va_K D mx_cl (mx_tys cas) s) (hd : decode cc pc = .ok (.baload, 1)) (hs : mx_bld S = some S')
    (k : mx_G p l e R s m args below meth c Q D cas x A0 H0 L0 nL c0 k0 (pc + 1) S') : mx_G p l e R s m args below meth c Q D cas x A0 H0 L0 nL c0 k0 pc S := by
  obtain ⟨lo, st, h⟩ := S
  unfold mx_bld at hs
  dsimp only at hs
  split at hs
  · rename_i i q r
    split at hs
    · rename_i n f hz
      split at hs
      · rename_i hin
        cases hs
        refine mx_g_ald hz (fun L E H locs cells slots ls r a e' hP hzip hE => ?_) k
        obtain ⟨-, rfl⟩ := hE
        exact ⟨_, rfl, fun kk => va_bald hx hb hK hP q 1 hzip (mx_tys_at cas (by decide)) (mx_inb_iff.mp hin) hd kk⟩
      · cases hs
    · rename_i n f hz
      split at hs
      · rename_i hin
        cases hs
        refine mx_g_ald hz (fun L E H locs cells slots ls r a e' hP hzip hE => ?_) k
        obtain ⟨-, rfl⟩ := hE
        exact ⟨_, rfl, fun kk => va_zald hx hb hK hP q 4 hzip (mx_tys_at cas (by decide)) (mx_inb_iff.mp hin) hd kk⟩
      · cases hs
    · cases hs
  · cases hs
theorem mx_k_sld (hx : p.tables.exec = Jvm.exec) (hb : c.code = cc) (hK : va_K D mx_cl (mx_tys cas) s) (hd : decode cc pc = .ok (.saload, 1)) (hs : mx_sld S = some S')
    (k : mx_G p l e R s m args below meth c Q D cas x A0 H0 L0 nL c0 k0 (pc + 1) S') : mx_G p l e R s m args below meth c Q D cas x A0 H0 L0 nL c0 k0 pc S := by
  obtain ⟨lo, st, h⟩ := S
  unfold mx_sld at hs
  dsimp only at hs
  split at hs
  · rename_i i q r
    split at hs
    · rename_i n f hz
      split at hs
      · rename_i hin
        cases hs
        refine mx_g_ald hz (fun L E H locs cells slots ls r a e' hP hzip hE => ?_) k
        obtain ⟨-, rfl⟩ := hE
        exact ⟨_, rfl, fun kk => va_sald hx hb hK hP q 2 hzip (mx_tys_at cas (by decide)) (mx_inb_iff.mp hin) hd kk⟩
      · cases hs
    · cases hs
  · cases hs
theorem mx_k_lld (hx : p.tables.exec = Jvm.exec) (hb : c.code = cc) (hK : va_K D mx_cl (mx_tys cas) s) (hd : decode cc pc = .ok (.laload, 1)) (hs : mx_lld S = some S')
    (k : mx_G p l e R s m args below meth c Q D cas x A0 H0 L0 nL c0 k0 (pc + 1) S') : mx_G p l e R s m args below meth c Q D cas x A0 H0 L0 nL c0 k0 pc S := by
  obtain ⟨lo, st, h⟩ := S
  unfold mx_lld at hs
  dsimp only at hs
  split at hs
  · rename_i i q r
    split at hs
    · rename_i n f hz
      split at hs
      · rename_i hin
        cases hs
        refine mx_g_ald hz (fun L E H locs cells slots ls r a e' hP hzip hE => ?_) k
        obtain ⟨-, rfl⟩ := hE
        exact ⟨_, rfl, fun kk => va_lald hx hb hK hP q 3 hzip (mx_tys_at cas (by decide)) (mx_inb_iff.mp hin) hd kk⟩
      · cases hs
    · cases hs
  · cases hs
theorem mx_ty_obj {t : Nat} (h1 : 5 ≤ t) (h2 : t < 11) : ∃ C, mx_tyL.getD t .int = .object C := by
  have : t = 5 ∨ t = 6 ∨ t = 7 ∨ t = 8 ∨ t = 9 ∨ t = 10 := by omega
  rcases this with h | h | h | h | h | h <;> subst h <;> exact ⟨_, rfl⟩
theorem mx_k_qld (hx : p.tables.exec = Jvm.exec) (hb : c.code = cc) (hK : va_K D mx_cl (mx_tys cas) s) (hd : decode cc pc = .ok (.aaload, 1)) (hs : mx_qld S = some S')
    (k : mx_G p l e R s m args below meth c Q D cas x A0 H0 L0 nL c0 k0 (pc + 1) S') : mx_G p l e R s m args below meth c Q D cas x A0 H0 L0 nL c0 k0 pc S := by
  obtain ⟨lo, st, h⟩ := S
  unfold mx_qld at hs
  dsimp only at hs
  split at hs
  · rename_i i q r
    split at hs
    · rename_i t n f hz
      split at hs
      · rename_i hin
        obtain ⟨t1, t2, hin⟩ := hin
        cases hs
        refine mx_g_ald hz (fun L E H locs cells slots ls r a e' hP hzip hE => ?_) k
        obtain ⟨-, f', rfl, hf⟩ := hE
        obtain ⟨C, hC⟩ := mx_ty_obj t1 t2
        exact ⟨_, hf i.toNatClampNeg, fun kk => va_aldq (C := C) hx hb hK hP q t hzip (by rw [mx_tys_at cas t2, hC]) (mx_inb_iff.mp hin) hd kk⟩
      · cases hs
    · cases hs
  · cases hs
/-- a write at place q, a the address -/
theorem mx_g_wr {lo : mx_L} {st st1 : List Value} {h : mx_H} {q : Nat} {e0 e1 : mx_E} (hz : h.2[q]? = some e0) (row : ∀ (L : List Nat) (E : List va_E) (H : Heap) (locs : List Loc) (cells slots : Nat) (ls : Array Slot) (st1' : List Value) (e' : va_E) (a : Nat), mx_Hr D cas x A0 L E h.2 H → va_P D mx_cl (L.zip E) H → va_D A0 (L.zip E) → va_S A0 H0 H locs → L[q]? = some a → (L.zip E)[q]? = some (a, e') → mx_Ee (fun q => L[q]?) x cas e0 e' → mx_VL (fun q => L[q]?) x st1 st1' → ∃ (e1' : va_E) (r' : List Value), mx_Ee (fun q => L[q]?) x cas e1 e1' ∧ mx_VL (fun q => L[q]?) x st r' ∧
      ((∀ (H1 : Heap) (locs1 : List Loc), va_P D mx_cl ((L.zip E).set q (a, e1')) H1 → va_D A0 ((L.zip E).set q (a, e1')) → va_S A0 H0 H1 locs1 → W p l e R s m args below meth c H1 locs1 cells slots Q (F0 m pc' ls r')) → W p l e R s m args below meth c H locs cells slots Q (F0 m pc ls st1')))
    (k : mx_G p l e R s m args below meth c Q D cas x A0 H0 L0 nL c0 k0 pc' (lo, st, mx_set h q e1)) : mx_G p l e R s m args below meth c Q D cas x A0 H0 L0 nL c0 k0 pc (lo, st1, h) := by
  intro L E lc ls st' H locs cells slots hL hH hO hLS hn hV hS hc hk0
  have hql : q < h.2.length := (List.getElem?_eq_some_iff.mp hz).1
  obtain ⟨a, ha⟩ : ∃ a, L[q]? = some a := ⟨L[q]'(by rw [hH.1]; exact hql), List.getElem?_eq_getElem _⟩
  obtain ⟨e', he, hzip, hE⟩ := hH.entry hz ha
  obtain ⟨e1', r', g1, g2, g3⟩ := row L E H locs cells slots ls st' e' a hH hH.2.2.2.1 hH.2.2.2.2 hS ha hzip hE hV
  refine g3 fun H1 locs1 hP1 hD1 hS1 => ?_
  exact k L (E.set q e1') lc ls r' H1 locs1 cells slots hL (hH.set ha hP1 hD1 g1) hO hLS hn g2 hS1 hc hk0
theorem mx_k_ast {t : Nat} {nar : Int32 → Int32} (ht : t < 5 ∧ t ≠ 3) (row : ∀ (L : List Nat) (E : List va_E) (H : Heap) (locs : List Loc) (cells slots : Nat) (ls : Array Slot) (r : List Value) (a q n : Nat) (f : Nat → Int32) (i y : Int32), va_P D mx_cl (L.zip E) H → va_D A0 (L.zip E) → va_S A0 H0 H locs → (L.zip E)[q]? = some (a, .inl (cas t, n, .inl f)) → vp_in i n → (∀ (H1 : Heap) (locs1 : List Loc), va_P D mx_cl ((L.zip E).set q (a, .inl (cas t, n, .inl (upd f i.toNatClampNeg (nar y))))) H1 → va_D A0 ((L.zip E).set q (a, .inl (cas t, n, .inl (upd f i.toNatClampNeg (nar y))))) → va_S A0 H0 H1 locs1 → W p l e R s m args below meth c H1 locs1 cells slots Q (F0 m pc' ls r)) → W p l e R s m args below meth c H locs cells slots Q (F0 m pc ls (.int y :: .int i :: .ref a :: r)))
    (hs : mx_ast t nar S = some S') (k : mx_G p l e R s m args below meth c Q D cas x A0 H0 L0 nL c0 k0 pc' S') : mx_G p l e R s m args below meth c Q D cas x A0 H0 L0 nL c0 k0 pc S := by
  obtain ⟨lo, st, h⟩ := S
  unfold mx_ast at hs
  dsimp only at hs
  split at hs
  · rename_i y i q r
    split at hs
    · rename_i t' n f hz
      split at hs
      · rename_i hin
        obtain ⟨rfl, hin⟩ := hin
        cases hs
        refine mx_g_wr (mx_arr_some hz) (fun L E H locs cells slots ls st1' e' a hHr hP hD hS ha hzip hE hV => ?_) k
        obtain ⟨_, _, rfl, h1, _, _, rfl, h2, _, r', rfl, ⟨a', h3, ha'⟩, h4⟩ := hV
        have h1 : _ = Value.int y := h1
        have h2 : _ = Value.int i := h2
        subst h1; subst h2; subst h3
        cases ha.symm.trans ha'
        obtain ⟨-, rfl⟩ := hE
        exact ⟨_, r', ⟨ht, rfl⟩, h4, fun kk => row L E H locs cells slots ls r' a q n f i y hP hD hS hzip (mx_inb_iff.mp hin) kk⟩
      · cases hs
    · cases hs
  · cases hs
theorem mx_k_bst (hx : p.tables.exec = Jvm.exec) (hb : c.code = cc) (hK : va_K D mx_cl (mx_tys cas) s) (hd : decode cc pc = .ok (.bastore, 1)) (hs : mx_bst S = some S')
    (k : mx_G p l e R s m args below meth c Q D cas x A0 H0 L0 nL c0 k0 (pc + 1) S') : mx_G p l e R s m args below meth c Q D cas x A0 H0 L0 nL c0 k0 pc S := by
  unfold mx_bst at hs
  split at hs
  · rename_i z hz
    cases hs
    refine mx_k_ast (by decide) (fun L E H locs cells slots ls r a q n f i y hP hD hS hzip hin kk => ?_) hz k
    refine va_bast hx hb hK hP hD hS q 1 hzip (mx_tys_at cas (by decide)) hin hd ?_
    rw [vp_nar_byte]
    exact kk
  · refine mx_k_ast (by decide) (fun L E H locs cells slots ls r a q n f i y hP hD hS hzip hin kk => ?_) hs k
    exact va_zast hx hb hK hP hD hS q 4 hzip (mx_tys_at cas (by decide)) hin hd kk
theorem mx_k_iast (hx : p.tables.exec = Jvm.exec) (hb : c.code = cc) (hK : va_K D mx_cl (mx_tys cas) s) (hd : decode cc pc = .ok (.iastore, 1)) (hs : mx_ast 0 (fun x => x) S = some S')
    (k : mx_G p l e R s m args below meth c Q D cas x A0 H0 L0 nL c0 k0 (pc + 1) S') : mx_G p l e R s m args below meth c Q D cas x A0 H0 L0 nL c0 k0 pc S :=
  mx_k_ast (by decide) (fun L E H locs cells slots ls r a q n f i y hP hD hS hzip hin kk => va_iast hx hb hK hP hD hS q 0 hzip (mx_tys_at cas (by decide)) hin hd kk) hs k
theorem mx_k_sast (hx : p.tables.exec = Jvm.exec) (hb : c.code = cc) (hK : va_K D mx_cl (mx_tys cas) s) (hd : decode cc pc = .ok (.sastore, 1)) (hs : mx_ast 2 (fun x => x.toInt16.toInt32) S = some S')
    (k : mx_G p l e R s m args below meth c Q D cas x A0 H0 L0 nL c0 k0 (pc + 1) S') : mx_G p l e R s m args below meth c Q D cas x A0 H0 L0 nL c0 k0 pc S := by
  refine mx_k_ast (by decide) (fun L E H locs cells slots ls r a q n f i y hP hD hS hzip hin kk => ?_) hs k
  refine va_sast hx hb hK hP hD hS q 2 hzip (mx_tys_at cas (by decide)) hin hd ?_
  rw [vp_nar_short]
  exact kk
theorem mx_k_lst (hx : p.tables.exec = Jvm.exec) (hb : c.code = cc) (hK : va_K D mx_cl (mx_tys cas) s) (hd : decode cc pc = .ok (.lastore, 1)) (hs : mx_lst S = some S')
    (k : mx_G p l e R s m args below meth c Q D cas x A0 H0 L0 nL c0 k0 (pc + 1) S') : mx_G p l e R s m args below meth c Q D cas x A0 H0 L0 nL c0 k0 pc S := by
  obtain ⟨lo, st, h⟩ := S
  unfold mx_lst at hs
  dsimp only at hs
  split at hs
  · rename_i y i q r
    split at hs
    · rename_i n f hz
      split at hs
      · rename_i hin
        cases hs
        refine mx_g_wr (mx_arr_some hz) (fun L E H locs cells slots ls st1' e' a hHr hP hD hS ha hzip hE hV => ?_) k
        obtain ⟨_, _, rfl, h1, _, _, rfl, h2, _, r', rfl, ⟨a', h3, ha'⟩, h4⟩ := hV
        have h1 : _ = Value.long y := h1
        have h2 : _ = Value.int i := h2
        subst h1; subst h2; subst h3
        cases ha.symm.trans ha'
        obtain ⟨-, rfl⟩ := hE
        exact ⟨_, r', ⟨rfl, rfl⟩, h4, fun kk => va_last hx hb hK hP hD hS q 3 hzip (mx_tys_at cas (by decide)) (mx_inb_iff.mp hin) hd kk⟩
      · cases hs
    · cases hs
  · cases hs
theorem mx_rv_ne {t : Nat} (h : t ≠ 7) (o : Option Nat) : mx_rv t o = va_rf o := by
  cases o with
  | none => rfl
  | some k => exact if_neg h
theorem mx_k_qst (hx : p.tables.exec = Jvm.exec) (hb : c.code = cc) (hT : mx_TOK) (hTb : mx_Tb D cas x s) (hstr : ∀ (H : Heap) (locs : List Loc), va_S A0 H0 H locs → ∀ k q, k < 18 → x k q → ∃ cell : Cell, H[q]? = some cell ∧ cell.vm.isStatics = false ∧ s.vm.findClass "java/lang/String" = some cell.cls) (hd : decode cc pc = .ok (.aastore, 1)) (hs : mx_qst S = some S')
    (k : mx_G p l e R s m args below meth c Q D cas x A0 H0 L0 nL c0 k0 (pc + 1) S') : mx_G p l e R s m args below meth c Q D cas x A0 H0 L0 nL c0 k0 pc S := by
  have hK := hTb.2.1
  obtain ⟨lo, st, h⟩ := S
  unfold mx_qst at hs
  dsimp only at hs
  split at hs
  · rename_i v i q r
    split at hs
    · rename_i t n f hz
      split at hs
      · rename_i hin
        obtain ⟨hast, hin⟩ := hin
        cases hs
        obtain ⟨t1, t2, t7, rr, C, hrr, hC, hcast⟩ := hT.2.2.2.2.2.1 _ _ hast
        refine mx_g_wr (mx_arr_some hz) (fun L E H locs cells slots ls st1' e' a hHr hP hD hS ha hzip hE hV => ?_) k
        obtain ⟨_, _, rfl, ⟨b, h1, hb1⟩, _, _, rfl, h2, _, r', rfl, ⟨a', h3, ha'⟩, h4⟩ := hV
        have h2 : _ = Value.int i := h2
        subst h1; subst h2; subst h3
        cases ha.symm.trans ha'
        obtain ⟨-, f', rfl, hf⟩ := hE
        have hkd : ∃ F, h.2[v]? = some (.inr (mx_kd h v, F)) := by
          unfold mx_kd
          split
          · rename_i cz F hh; exact ⟨F, hh⟩
          · rename_i tz _ _ hh
            have hk2 : mx_cl[mx_kd h v]? = none := by
              unfold mx_kd
              rw [hh]
              exact List.getElem?_eq_none (by show 43 ≤ 100 + tz; omega)
            rw [hk2] at hrr; cases hrr
          · rename_i hh
            have hk2 : mx_cl[mx_kd h v]? = none := by
              unfold mx_kd
              rw [hh]
              exact List.getElem?_eq_none (by show 43 ≤ 98; omega)
            rw [hk2] at hrr; cases hrr
        obtain ⟨F, hF⟩ := hkd
        obtain ⟨ev', hev, hvzip, hEv⟩ := hHr.entry hF hb1
        obtain ⟨fs, rfl, -, -⟩ := hEv
        have hget : mx_tyL.getD t .int = .object C := by
          rw [List.getD_eq_getElem?_getD, hC]; rfl
        have hany : va_Any C s H b := va_rAny hK hP hvzip hrr (fun comp c9 f1 f2 => by
          rcases hcast with hc1 | hc1
          · rw [hc1] at f2
            cases f1.symm.trans f2
            exact va_asg _ _
          · exact vb_asgC (hTb.1 _ hc1 rfl) comp c9 f1 f2)
        refine ⟨.inl (cas t, n, .inr (.inr (.inr (.inr (va_up f' i.toNatClampNeg (some b)))))), r', ⟨⟨t1, t2⟩, _, rfl, fun j => ?_⟩, h4, fun kk => va_astqM hx hb hK hP hD hS q t hzip (by rw [mx_tys_at cas t2, hget]) hany (mx_inb_iff.mp hin) hd kk⟩
        by_cases cj : j = i.toNatClampNeg
        · subst cj
          rw [va_up_self, va_up_self, mx_rv_ne t7]
          exact ⟨b, rfl, hb1⟩
        · rw [va_up_ne _ _ cj, va_up_ne _ _ cj]
          exact hf j
      · cases hs
    · cases hs
  · rename_i v i q r
    split at hs
    · rename_i t n f hz
      split at hs
      · rename_i hin
        obtain ⟨rfl, hv18, hin⟩ := hin
        cases hs
        refine mx_g_wr (mx_arr_some hz) (fun L E H locs cells slots ls st1' e' a hHr hP hD hS ha hzip hE hV => ?_) k
        obtain ⟨_, _, rfl, ⟨b, h1, hb1⟩, _, _, rfl, h2, _, r', rfl, ⟨a', h3, ha'⟩, h4⟩ := hV
        have h2 : _ = Value.int i := h2
        subst h1; subst h2; subst h3
        cases ha.symm.trans ha'
        obtain ⟨-, f', rfl, hf⟩ := hE
        obtain ⟨cell, g1, g2, g3⟩ := hstr H locs hS _ b hv18 hb1
        have hany : va_Any "java/lang/String" s H b := by
          obtain ⟨kC, hkC, -⟩ := Vm.findClass_spec g3
          exact ⟨cell, g1, g2, ⟨kC, hkC⟩, fun comp h => by cases g3.symm.trans h; exact va_asg _ _⟩
        refine ⟨.inl (cas 7, n, .inr (.inr (.inr (.inr (va_up f' i.toNatClampNeg (some b)))))), r', ⟨by decide, _, rfl, fun j => ?_⟩, h4, fun kk => va_astqM hx hb hK hP hD hS q 7 hzip (mx_tys_at cas (by decide)) hany (mx_inb_iff.mp hin) hd kk⟩
        by_cases cj : j = i.toNatClampNeg
        · subst cj
          rw [va_up_self, va_up_self]
          refine ⟨b, rfl, ?_⟩
          have e9 : (UInt32.ofNat v.toNat).toNat = v.toNat := by rw [UInt32.ofNat_toNat]
          rw [e9]
          exact hb1
        · rw [va_up_ne _ _ cj, va_up_ne _ _ cj]
          exact hf j
      · cases hs
    · cases hs
  · cases hs
theorem mx_k_alen (hx : p.tables.exec = Jvm.exec) (hb : c.code = cc) (hK : va_K D mx_cl (mx_tys cas) s) (hd : decode cc pc = .ok (.arraylength, 1)) (hbase : ∀ (H : Heap) (locs : List Loc), va_S A0 H0 H locs → ∀ b, x 1000 b → va_X b S.2.2.1.1.1 S.2.2.1.1.2 s H0 ∧ ¬ A0 b ∧ b < H0.size) (hs : mx_alen S = some S')
    (k : mx_G p l e R s m args below meth c Q D cas x A0 H0 L0 nL c0 k0 (pc + 1) S') : mx_G p l e R s m args below meth c Q D cas x A0 H0 L0 nL c0 k0 pc S := by
  obtain ⟨lo, st, h⟩ := S
  unfold mx_alen at hs
  dsimp only at hs
  split at hs
  · rename_i n r
    split at hs
    · rename_i hn0
      subst hn0
      cases hs
      intro L E lc ls st' H locs cells slots hL hH hO hLS hn hV hS hc hk0
      obtain ⟨_, r', rfl, ⟨b, h2, hxb⟩, h3⟩ := hV
      subst h2
      obtain ⟨hX, hbA, hbl⟩ := hbase H locs hS b hxb
      refine va_slen hx hb hX hbl hbA hS hd ?_
      exact k L E lc ls _ H locs cells slots hL hH hO hLS hn ⟨_, _, rfl, rfl, h3⟩ hS hc hk0
    · cases hs
  · rename_i q r
    split at hs
    · rename_i t n z hz
      cases hs
      intro L E lc ls st' H locs cells slots hL hH hO hLS hn hV hS hc hk0
      obtain ⟨_, r', rfl, ⟨a, h2, ha⟩, h3⟩ := hV
      subst h2
      obtain ⟨e', he, hzip, hE⟩ := hH.entry (mx_arr_some hz) ha
      have ht : t < 11 ∧ ∃ w : vp_A, e' = .inl (cas t, w) ∧ w.1 = n := by
        rcases z with f | f | f
        · obtain ⟨h1, h2⟩ := hE; exact ⟨by omega, _, h2, rfl⟩
        · obtain ⟨h1, h2⟩ := hE; exact ⟨by omega, _, h2, rfl⟩
        · obtain ⟨h1, f', h2, -⟩ := hE; exact ⟨by omega, _, h2, rfl⟩
      obtain ⟨t2, w, rfl, hw⟩ := ht
      refine va_alen (v := Int32.ofNat n) hx hb hK hH.2.2.2.1 q t hzip (mx_tys_at cas t2) (by rw [hw]) hd ?_
      exact k L E lc ls _ H locs cells slots hL hH hO hLS hn ⟨_, _, rfl, rfl, h3⟩ hS hc hk0
    · cases hs
  · cases hs
theorem mx_k_gf {i : Nat} (hx : p.tables.exec = Jvm.exec) (hb : c.code = cc) (hT : mx_TOK) (hts : ∀ w ∈ lw_all, w.before args s = true) (htb : ∀ w ∈ lw_tbl, mx_sd2 w = true → w.before args s = true) (hown : s.vm.findClass (mx_cls o) = some m.cls) (hK : va_K D mx_cl (mx_tys cas) s) (hd : decode cc pc = .ok (.getfield i, 3)) (hs : mx_gf o i S = some S')
    (k : mx_G p l e R s m args below meth c Q D cas x A0 H0 L0 nL c0 k0 (pc + 3) S') : mx_G p l e R s m args below meth c Q D cas x A0 H0 L0 nL c0 k0 pc S := by
  obtain ⟨lo, st, h⟩ := S
  unfold mx_gf at hs
  dsimp only at hs
  split at hs
  · rename_i q r
    split at hs
    · rename_i ci F hz
      split at hs
      · rename_i kk hf
        cases hs
        intro L E lc ls st' H locs cells slots hL hH hO hLS hn hV hS hc hk0
        obtain ⟨_, r', rfl, ⟨a, h2, ha⟩, h3⟩ := hV
        subst h2
        obtain ⟨e', he, hzip, hE⟩ := hH.entry (mx_obj_some hz) ha
        obtain ⟨fs, rfl, hlen, hfs⟩ := hE
        have hF := hT.1 _ _ _ _ hf
        have hk : kk < fs.length := by
          obtain ⟨rr, ref, hkok, hkn, -, -⟩ := hF
          rw [hlen]
          unfold mx_nf
          rw [hkok.1]
          exact hkn
        have hget : fs[kk]? = some fs[kk] := List.getElem?_eq_getElem hk
        refine mx_wget hx hb hts htb hF hown hK hH.2.2.2.1 q hzip hget hd ?_
        exact k L E lc ls _ H locs cells slots hL hH hO hLS hn ⟨_, _, rfl, hfs _ _ hget, h3⟩ hS hc hk0
      · cases hs
    · cases hs
  · cases hs
theorem mx_fit_rel {g : Nat → Option Nat} {ty : FieldType} {v v' : Value} (h : mx_V g x v v') (hf : mx_fit ty v = true) : narrow ty v' = v' ∧ fits ty v' = true := by
  unfold mx_fit at hf
  split at hf
  · rename_i z
    have h : v' = .int z := h
    subst h
    exact ⟨rfl, rfl⟩
  · rename_i z
    have h : v' = .int z := h
    subst h
    have : z = 0 ∨ z = 1 := by simpa using hf
    rcases this with e | e <;> subst e <;> exact ⟨rfl, rfl⟩
  · rename_i z
    have h : v' = .long z := h
    subst h
    exact ⟨rfl, rfl⟩
  · obtain ⟨a, h1, -⟩ := h
    subst h1
    exact ⟨rfl, rfl⟩
  · have h : v' = .null := h
    subst h
    exact ⟨rfl, rfl⟩
  · obtain ⟨a, h1, -⟩ := h
    subst h1
    exact ⟨rfl, rfl⟩
  · have h : v' = .null := h
    subst h
    exact ⟨rfl, rfl⟩
  · cases hf
theorem mx_k_pf {i : Nat} (hx : p.tables.exec = Jvm.exec) (hb : c.code = cc) (hT : mx_TOK) (hts : ∀ w ∈ lw_all, w.before args s = true) (htb : ∀ w ∈ lw_tbl, mx_sd2 w = true → w.before args s = true) (hown : s.vm.findClass (mx_cls o) = some m.cls) (hini : ini = true → meth.name = "<init>") (hK : va_K D mx_cl (mx_tys cas) s) (hd : decode cc pc = .ok (.putfield i, 3)) (hs : mx_pf o i ini S = some S')
    (k : mx_G p l e R s m args below meth c Q D cas x A0 H0 L0 nL c0 k0 (pc + 3) S') : mx_G p l e R s m args below meth c Q D cas x A0 H0 L0 nL c0 k0 pc S := by
  obtain ⟨lo, st, h⟩ := S
  unfold mx_pf at hs
  dsimp only at hs
  split at hs
  · rename_i v q r
    split at hs
    · rename_i ci F hz
      split at hs
      · rename_i kk hf
        split at hs
        · rename_i hg
          cases hs
          have hF := hT.1 _ _ _ _ hf
          simp only [Bool.and_eq_true, Bool.or_eq_true, Bool.not_eq_true', beq_iff_eq] at hg
          obtain ⟨hg1, hg2⟩ := hg
          refine mx_g_wr (mx_obj_some hz) (fun L E H locs cells slots ls st1' e' a hHr hP hD hS ha hzip hE hV => ?_) k
          obtain ⟨v', _, rfl, h1, _, r', rfl, ⟨a', h3, ha'⟩, h4⟩ := hV
          subst h3
          cases ha.symm.trans ha'
          obtain ⟨fs, rfl, hlen, hfs⟩ := hE
          have hk : kk < fs.length := by
            obtain ⟨rr, ref, hkok, hkn, -, -⟩ := hF
            rw [hlen]
            unfold mx_nf
            rw [hkok.1]
            exact hkn
          have hft := mx_fit_rel h1 hg1
          refine ⟨.inr (ci, fs.set kk v'), r', ⟨_, rfl, by simp [hlen], fun j w hj => ?_⟩, h4, fun kk' => mx_wput hx hb hts htb hF hown hK hP hD hS q hzip (hg2.imp id (fun z => ⟨hini z.1, z.2⟩)) hft.1 hft.2 hk hd kk'⟩
          by_cases cj : j = kk
          · subst cj
            rw [List.getElem?_set_self hk] at hj
            cases hj
            rw [va_up_self]
            exact h1
          · rw [List.getElem?_set_ne (Ne.symm cj)] at hj
            rw [va_up_ne _ _ cj]
            exact hfs j w hj
        · cases hs
      · cases hs
    · cases hs
  · cases hs
end MXK
section MXL
variable {p : Program} {l : Launch} {e : Env} {R : Room} {s : State} {m : MethodId} {args : Array Value} {below : List Frame} {meth : Method} {c : Code} {Q : State → Prop}
variable {D : va_G} {cas : Nat → ClassId} {x : Nat → Nat → Prop} {A0 : Nat → Prop} {H0 : Heap} {L0 : List Nat} {nL c0 k0 : Nat} {cc : ByteArray} {pc pc' : Nat} {o : Nat} {ini : Bool} {S S' : mx_S}
/-- a new entry -/
theorem mx_g_new {lo : mx_L} {st st1 : List Value} {h : mx_H} {n : Nat} {e1 : mx_E} (hroom : h.1.2.1 + 1 ≤ c0 + R.cells ∧ h.1.2.2 + n ≤ k0 + R.slots) (row : ∀ (L : List Nat) (E : List va_E) (H : Heap) (locs : List Loc) (cells slots : Nat) (ls : Array Slot) (st1' : List Value), va_P D mx_cl (L.zip E) H → va_D A0 (L.zip E) → va_S A0 H0 H locs → cells + 1 ≤ R.cells → slots + n ≤ R.slots → mx_VL (fun q => L[q]?) x st1 st1' → ∃ (e1' : va_E) (r' : List Value), mx_Ee (fun q => L[q]?) x cas e1 e1' ∧ mx_VL (fun q => L[q]?) x st r' ∧
      ((∀ (a : Nat) (H1 : Heap), va_P D mx_cl (L.zip E ++ [(a, e1')]) H1 → va_D A0 (L.zip E ++ [(a, e1')]) → va_S A0 H0 H1 locs → W p l e R s m args below meth c H1 locs (cells + 1) (slots + n) Q (F0 m pc' ls (.ref a :: r'))) → W p l e R s m args below meth c H locs cells slots Q (F0 m pc ls st1')))
    (k : mx_G p l e R s m args below meth c Q D cas x A0 H0 L0 nL c0 k0 pc' (lo, .ref h.2.length :: st, mx_psh h n e1)) : mx_G p l e R s m args below meth c Q D cas x A0 H0 L0 nL c0 k0 pc (lo, st1, h) := by
  intro L E lc ls st' H locs cells slots hL hH hO hLS hn hV hS hc hk0
  have hc : c0 + cells = h.1.2.1 := hc
  have hk0 : k0 + slots = h.1.2.2 := hk0
  obtain ⟨e1', r', g1, g2, g3⟩ := row L E H locs cells slots ls st' hH.2.2.2.1 hH.2.2.2.2 hS (by omega) (by omega) hV
  refine g3 fun a H1 hP1 hD1 hS1 => ?_
  obtain ⟨M, hM⟩ := hL
  refine k (L ++ [a]) (E ++ [e1']) lc ls (.ref a :: r') H1 locs (cells + 1) (slots + n) ⟨M ++ [a], by rw [hM, List.append_assoc]⟩ (hH.push hP1 hD1 g1) (hO.mono mx_ext) hLS hn ⟨_, _, rfl, ⟨a, rfl, ?_⟩, g2.mono mx_ext⟩ hS1 ?_ ?_
  · show (L ++ [a])[h.2.length]? = some a
    rw [← hH.1, List.getElem?_append_right (Nat.le_refl _), Nat.sub_self]
    rfl
  · show c0 + (cells + 1) = h.1.2.1 + 1
    omega
  · show k0 + (slots + n) = h.1.2.2 + n
    omega
theorem mx_dflV {g : Nat → Option Nat} {d : String} {ty : FieldType} (h : parseFieldDescriptor d = some ty) (hn : ty ≠ .double ∧ ty ≠ .float) : mx_V g x (mx_dfl ty) (defaultValue ty) := by
  unfold mx_dfl
  cases ty <;> first | rfl | exact absurd rfl hn.1 | exact absurd rfl hn.2
theorem mx_k_nw {i : Nat} (hx : p.tables.exec = Jvm.exec) (hb : c.code = cc) (hT : mx_TOK) (hts : ∀ w ∈ lw_all, w.before args s = true) (hown : s.vm.findClass (mx_cls o) = some m.cls) (hK : va_K D mx_cl (mx_tys cas) s) (hA : ∀ q, H0.size ≤ q → A0 q) (hfl : ∀ c k, mx_fty c k ≠ .double ∧ mx_fty c k ≠ .float) (hd : decode cc pc = .ok (.new i, 3)) (hs : mx_nw o i S = some S') (hroom : S'.2.2.1.2.1 ≤ c0 + R.cells ∧ S'.2.2.1.2.2 ≤ k0 + R.slots)
    (k : mx_G p l e R s m args below meth c Q D cas x A0 H0 L0 nL c0 k0 (pc + 3) S') : mx_G p l e R s m args below meth c Q D cas x A0 H0 L0 nL c0 k0 pc S := by
  obtain ⟨lo, st, h⟩ := S
  unfold mx_nw at hs
  split at hs
  · rename_i ci hci
    cases hs
    obtain ⟨⟨C, T, N⟩, ⟨hc, hin, hty, -, -⟩, g1, g2, g3⟩ := hT.2.1 _ _ _ hci
    dsimp only at hc hin hty g1 g2 g3
    have hnf : mx_nf ci = N := by unfold mx_nf; rw [hc]; rfl
    refine mx_g_new hroom (fun L E H locs cells slots ls st1' hP hD hS h1 h2 hV => ?_) k
    refine ⟨.inr (ci, (List.range N).map fun k => defaultValue (mx_fty ci k)), st1', ⟨_, rfl, by simp [hnf], fun j v hj => ?_⟩, hV, fun kk => ?_⟩
    · rw [List.getElem?_map] at hj
      by_cases cj : j < N
      · rw [List.getElem?_range cj] at hj
        cases hj
        exact mx_dflV (hty j cj) (hfl ci j)
      · rw [List.getElem?_eq_none (by simpa using cj)] at hj
        cases hj
    · rw [hnf] at h2
      have kk' : ∀ (a : Nat) (H1 : Heap), va_P D mx_cl (L.zip E ++ [(a, .inr (ci, (List.range N).map fun k => defaultValue (mx_fty ci k)))]) H1 → va_D A0 (L.zip E ++ [(a, .inr (ci, (List.range N).map fun k => defaultValue (mx_fty ci k)))]) → va_S A0 H0 H1 locs → W p l e R s m args below meth c H1 locs (cells + 1) (slots + N) Q (F0 m (pc + 3) ls (.ref a :: st1')) := by
        have := kk
        rw [hnf] at this
        exact this
      exact va_new hx hb hts hin (mx_fty ci) hty hown (hts _ g1) (hts _ g2) (hts _ g3) hK hP hD hS hA hc (fun j hj => by simp [vp_V, hj]) h1 h2 hd kk'
  · cases hs
theorem mx_k_na {a : ArrayType} (hx : p.tables.exec = Jvm.exec) (hb : c.code = cc) (hT : mx_TOK) (hts : ∀ w ∈ lw_all, w.before args s = true) (hK : va_K D mx_cl (mx_tys cas) s) (hA : ∀ q, H0.size ≤ q → A0 q) (hd : decode cc pc = .ok (.newarray a, 2)) (hs : mx_na a S = some S') (hroom : S'.2.2.1.2.1 ≤ c0 + R.cells ∧ S'.2.2.1.2.2 ≤ k0 + R.slots)
    (k : mx_G p l e R s m args below meth c Q D cas x A0 H0 L0 nL c0 k0 (pc + 2) S') : mx_G p l e R s m args below meth c Q D cas x A0 H0 L0 nL c0 k0 pc S := by
  obtain ⟨lo, st, h⟩ := S
  unfold mx_na at hs
  dsimp only at hs
  split at hs
  · rename_i n r
    split at hs
    · rename_i t z hz
      split at hs
      · rename_i hn0
        cases hs
        have harr := hT.2.2.2.2.2.2.2 _ _ _ hz
        refine mx_g_new hroom (fun L E H locs cells slots ls st1' hP hD hS h1 h2 hV => ?_) k
        obtain ⟨_, r', rfl, g1, g2⟩ := hV
        have g1 : _ = Value.int n := g1
        subst g1
        have key : ∀ (ty : FieldType) (a0 : vp_A) (t9 : Nat), newarray.typeOf a = ty → t9 < 11 → mx_tyL.getD t9 .int = ty → (∀ cA : ClassId, vp_cell cA a0 = arrV cA n.toNatClampNeg (fun _ => defaultValue ty)) → componentBytes ty ≤ 8 → Cond.arrayClass ty ∈ lw_all →
            (∀ (a : Nat) (H1 : Heap), va_P D mx_cl (L.zip E ++ [(a, .inl (cas t9, a0))]) H1 → va_D A0 (L.zip E ++ [(a, .inl (cas t9, a0))]) → va_S A0 H0 H1 locs → W p l e R s m args below meth c H1 locs (cells + 1) (slots + n.toNatClampNeg) Q (F0 m (pc + 2) ls (.ref a :: r'))) → W p l e R s m args below meth c H locs cells slots Q (F0 m pc ls (.int n :: r')) := by
          intro ty a0 t9 e1 e2 e3 e4 e5 e6 kk
          refine va_newa (atype := a) hx hb (by rw [e1]; exact hts _ e6) e1 hK hP hD hS hA e4 hn0.1 rfl (by have := Nat.mul_le_mul hn0.2 e5; omega) h1 h2 hd fun q cA H1 hK1 hP1 hD1 hS1 => ?_
          have hcA : cA = cas t9 := by
            have r1 := (hK1.2 11 (cA, ty) (by rfl)).2
            have r2 := (hK.2 t9 _ (mx_tys_at cas e2)).2
            rw [e3] at r2
            exact va_RA.inj r1 r2
          rw [hcA] at hP1 hD1
          exact kk q H1 hP1 hD1 hS1
        cases a with
        | int => cases hz; exact ⟨_, r', ⟨by decide, rfl⟩, g2, fun kk => key .int (n.toNatClampNeg, .inl fun _ => 0) 0 rfl (by decide) rfl (fun _ => rfl) (by decide) harr kk⟩
        | byte => cases hz; exact ⟨_, r', ⟨by decide, rfl⟩, g2, fun kk => key .byte (n.toNatClampNeg, .inl fun _ => 0) 1 rfl (by decide) rfl (fun _ => rfl) (by decide) harr kk⟩
        | short => cases hz; exact ⟨_, r', ⟨by decide, rfl⟩, g2, fun kk => key .short (n.toNatClampNeg, .inl fun _ => 0) 2 rfl (by decide) rfl (fun _ => rfl) (by decide) harr kk⟩
        | long => cases hz; exact ⟨_, r', ⟨rfl, rfl⟩, g2, fun kk => key .long (n.toNatClampNeg, .inr (.inl fun _ => 0)) 3 rfl (by decide) rfl (fun _ => rfl) (by decide) harr kk⟩
        | boolean => cases hz; exact ⟨_, r', ⟨by decide, rfl⟩, g2, fun kk => key .boolean (n.toNatClampNeg, .inl fun _ => 0) 4 rfl (by decide) rfl (fun _ => rfl) (by decide) harr kk⟩
        | _ => cases hz
      · cases hs
    · cases hs
  · cases hs
theorem mx_k_nq {i : Nat} (hx : p.tables.exec = Jvm.exec) (hb : c.code = cc) (hT : mx_TOK) (hts : ∀ w ∈ lw_all, w.before args s = true) (htb : ∀ w ∈ lw_tbl, mx_side w = true → va_Nw w s) (hown : s.vm.findClass (mx_cls o) = some m.cls) (hK : va_K D mx_cl (mx_tys cas) s) (hA : ∀ q, H0.size ≤ q → A0 q) (hd : decode cc pc = .ok (.anewarray i, 3)) (hs : mx_nq o i S = some S') (hroom : S'.2.2.1.2.1 ≤ c0 + R.cells ∧ S'.2.2.1.2.2 ≤ k0 + R.slots)
    (k : mx_G p l e R s m args below meth c Q D cas x A0 H0 L0 nL c0 k0 (pc + 3) S') : mx_G p l e R s m args below meth c Q D cas x A0 H0 L0 nL c0 k0 pc S := by
  obtain ⟨lo, st, h⟩ := S
  unfold mx_nq at hs
  dsimp only at hs
  split at hs
  · rename_i n r
    split at hs
    · rename_i t hz
      split at hs
      · rename_i hn0
        cases hs
        obtain ⟨t1, t2, C, hC, hcl, hov⟩ := hT.2.2.1 _ _ _ hz
        have hget : mx_tyL.getD t .int = .object C := by
          rw [List.getD_eq_getElem?_getD, hC]; rfl
        refine mx_g_new hroom (fun L E H locs cells slots ls st1' hP hD hS h1 h2 hV => ?_) k
        obtain ⟨_, r', rfl, g1, g2⟩ := hV
        have g1 : _ = Value.int n := g1
        subst g1
        refine ⟨.inl (cas t, n.toNatClampNeg, .inr (.inr (.inr (.inr fun _ => none)))), r', ⟨⟨t1, t2⟩, _, rfl, fun j => rfl⟩, g2, fun kk => ?_⟩
        refine va_newq hx hb hown (hts _ hcl) (htb _ hov rfl) hK hP hD hS hA hn0.1 rfl (by have := hn0.2; omega) h1 h2 hd fun q cA H1 hK1 hP1 hD1 hS1 => ?_
        have hcA : cA = cas t := by
          have r1 := (hK1.2 11 (cA, .object C) (by rfl)).2
          have r2 := (hK.2 t _ (mx_tys_at cas t2)).2
          rw [hget] at r2
          exact va_RA.inj r1 r2
        rw [hcA] at hP1 hD1
        exact kk q H1 hP1 hD1 hS1
      · cases hs
    · cases hs
  · cases hs
/-- what a reference's kind says of its cell -/
theorem mx_kd_cell {L : List Nat} {E : List va_E} {h : mx_H} {H : Heap} (hK : va_K D mx_cl (mx_tys cas) s) (hH : mx_Hr D cas x A0 L E h.2 H) {q a : Nat} (ha : L[q]? = some a) : (∃ r : vw_C, mx_cl[mx_kd h q]? = some r ∧ ∃ cell : Cell, H[a]? = some cell ∧ cell.vm.isStatics = false ∧ s.vm.findClass r.1 = some cell.cls) ∨ ∃ t, t < 11 ∧ mx_kd h q = 100 + t ∧ ∃ (w : vp_A), (L.zip E)[q]? = some (a, .inl (cas t, w)) := by
  have hql : q < h.2.length := by rw [← hH.1]; exact (List.getElem?_eq_some_iff.mp ha).1
  obtain ⟨z, hz⟩ : ∃ z, h.2[q]? = some z := ⟨_, List.getElem?_eq_getElem hql⟩
  obtain ⟨e', he, hzip, hE⟩ := hH.entry hz ha
  unfold mx_kd
  rw [hz]
  rcases z with ⟨t, n, f | f | f⟩ | ⟨ci, F⟩
  · obtain ⟨h1, rfl⟩ := hE; exact Or.inr ⟨t, by omega, rfl, _, hzip⟩
  · obtain ⟨h1, rfl⟩ := hE; subst h1; exact Or.inr ⟨3, by omega, rfl, _, hzip⟩
  · obtain ⟨h1, f', rfl, -⟩ := hE; exact Or.inr ⟨t, by omega, rfl, _, hzip⟩
  · obtain ⟨fs, rfl, -, -⟩ := hE
    obtain ⟨r, h1, cell, q1, q2, q3, q4⟩ := hH.2.2.2.1 q _ hzip
    exact Or.inl ⟨r, h1, cell, q1, by rw [q3]; rfl, by rw [q2]; exact (hK.1 ci r h1).2.1⟩
end MXL
