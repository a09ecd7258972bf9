section MXM
variable {p : Program} {l : Launch} {e : Env} {R : Room} {s : State} {m : MethodId} {args : Array Value} {below : List Frame} {meth : Method} {c : Code} {Q : State → Prop}
variable {D : va_G} {cas : Nat → ClassId} {x : Nat → Nat → Prop} {A0 : Nat → Prop} {H0 : Heap} {L0 : List Nat} {nL c0 k0 : Nat} {cc : ByteArray} {pc pc' : Nat} {o : Nat} {ini : Bool} {S S' : mx_S}
theorem mx_lookup_mem {α β : Type} [BEq α] [LawfulBEq α] : ∀ {l : List (α × β)} {k : α} {v : β}, l.lookup k = some v → (k, v) ∈ l
  | [], _, _, h => by cases h
  | (a, b) :: l, k, v, h => by
    rw [List.lookup_cons] at h
    by_cases c : k == a
    · rw [c] at h
      have e1 : k = a := eq_of_beq c
      subst e1
      cases h
      exact List.mem_cons_self
    · have c' : (k == a) = false := by simpa using c
      rw [c'] at h
      exact List.mem_cons_of_mem _ (mx_lookup_mem h)
theorem mx_cast_src {k t : Nat} {b : Bool} (h : mx_cast k t = some b) : (28 ≤ k ∧ k ≤ 33) ∨ (100 ≤ k ∧ k ≤ 103) := by
  have h1 := mx_lookup_mem h
  have h2 : ∀ z ∈ mx_castT, (28 ≤ z.1.1 ∧ z.1.1 ≤ 33) ∨ (100 ≤ z.1.1 ∧ z.1.1 ≤ 103) := by decide +kernel
  exact h2 _ h1
theorem mx_kd_nm {L : List Nat} {E : List va_E} {h : mx_H} {H : Heap} (hK : va_K D mx_cl (mx_tys cas) s) (hH : mx_Hr D cas x A0 L E h.2 H) {q a t : Nat} {b : Bool} (ha : L[q]? = some a) (hc : mx_cast (mx_kd h q) t = some b) : ∃ cell : Cell, H[a]? = some cell ∧ cell.vm.isStatics = false ∧ s.vm.findClass (mx_tnm (mx_kd h q)) = some cell.cls := by
  have hsrc := mx_cast_src hc
  rcases mx_kd_cell hK hH ha with ⟨r, hr, cell, h1, h2, h3⟩ | ⟨t', h1, h2, w, h3⟩
  · refine ⟨cell, h1, h2, ?_⟩
    have hk : mx_kd h q = 28 ∨ mx_kd h q = 29 ∨ mx_kd h q = 30 ∨ mx_kd h q = 31 ∨ mx_kd h q = 32 ∨ mx_kd h q = 33 := by
      rcases hsrc with z | z
      · omega
      · have := (List.getElem?_eq_some_iff.mp hr).1
        have : mx_kd h q < 43 := this
        omega
    have e1 : mx_tnm (mx_kd h q) = r.1 := by
      rcases hk with z | z | z | z | z | z <;> (rw [z] at hr ⊢; cases hr; rfl)
    rw [e1]
    exact h3
  · have hcell : H[a]? = some (vp_cell (cas t') w) := hH.2.2.2.1 q _ h3
    have hvm0 : (vp_cell (cas t') w).vm = .none := by
      obtain ⟨n, f | f | f | f | f⟩ := w <;> rfl
    have hcl0 : (vp_cell (cas t') w).cls = cas t' := by
      obtain ⟨n, f | f | f | f | f⟩ := w <;> rfl
    refine ⟨_, hcell, by rw [hvm0]; rfl, ?_⟩
    rw [hcl0]
    have hra := (hK.2 t' _ (mx_tys_at cas h1)).2
    have ht : t' = 0 ∨ t' = 1 ∨ t' = 2 ∨ t' = 3 := by omega
    rw [h2]
    rcases ht with z | z | z | z <;> subst z
    · exact va_nm_int hra
    · exact va_nm_byte hra
    · exact va_nm_short hra
    · exact va_nm_long hra
theorem mx_k_io {i : Nat} (hx : p.tables.exec = Jvm.exec) (hb : c.code = cc) (hT : mx_TOK) (hTb : mx_Tb D cas x s) (hts : ∀ w ∈ lw_all, w.before args s = true) (hown : s.vm.findClass (mx_cls o) = some m.cls) (hd : decode cc pc = .ok (.instanceof i, 3)) (hs : mx_io o i S = some S')
    (k : mx_G p l e R s m args below meth c Q D cas x A0 H0 L0 nL c0 k0 (pc + 3) S') : mx_G p l e R s m args below meth c Q D cas x A0 H0 L0 nL c0 k0 pc S := by
  obtain ⟨lo, st, h⟩ := S
  unfold mx_io at hs
  dsimp only at hs
  split at hs
  · rename_i r
    cases hs
    refine mx_g_row (fun L H locs cells slots lc ls st' hO hLS hV => ?_) k
    obtain ⟨_, r', rfl, h1, h3⟩ := hV
    have h1 : _ = Value.null := h1
    subst h1
    exact ⟨_, ⟨_, _, rfl, rfl, h3⟩, fun kk => lv_instN hx hb hd kk⟩
  · rename_i q r
    split at hs
    · rename_i t ht
      split at hs
      · rename_i bb hcast
        cases hs
        intro L E lc ls st' H locs cells slots hL hH hO hLS hn hV hS hc hk0
        obtain ⟨_, r', rfl, ⟨a, h2, ha⟩, h3⟩ := hV
        subst h2
        have hcell := mx_kd_nm hTb.2.1 hH ha hcast
        have hlink := hts _ (hT.2.2.2.2.2.2.1 _ _ _ ht)
        cases bb with
        | false => exact va_instNo hx hb hown hlink (hTb.2.2.1 _ _ hcast) hcell hd (k L E lc ls _ H locs cells slots hL hH hO hLS hn ⟨_, _, rfl, rfl, h3⟩ hS hc hk0)
        | true =>
          have kk := k L E lc ls (.int 1 :: r') H locs cells slots hL hH hO hLS hn ⟨_, _, rfl, rfl, h3⟩ hS hc hk0
          rcases hTb.2.2.2.1 _ _ hcast with z | z
          · rw [z] at hcell
            exact va_instE hx hb hown hlink hcell hd kk
          · exact va_instY hx hb hown hlink z hcell hd kk
      · cases hs
    · cases hs
  · cases hs
/-- a cast that comes through -/
theorem mx_k_cc {i : Nat} (hx : p.tables.exec = Jvm.exec) (hb : c.code = cc) (hT : mx_TOK) (hTb : mx_Tb D cas x s) (hts : ∀ w ∈ lw_all, w.before args s = true) (hown : s.vm.findClass (mx_cls o) = some m.cls) (hd : decode cc pc = .ok (.checkcast i, 3)) (hs : mx_cc o i S = some S')
    (k : mx_G p l e R s m args below meth c Q D cas x A0 H0 L0 nL c0 k0 (pc + 3) S') : mx_G p l e R s m args below meth c Q D cas x A0 H0 L0 nL c0 k0 pc S := by
  obtain ⟨lo, st, h⟩ := S
  unfold mx_cc at hs
  dsimp only at hs
  split at hs
  · rename_i r
    cases hs
    refine mx_g_row (fun L H locs cells slots lc ls st' hO hLS hV => ?_) k
    obtain ⟨_, r', rfl, h1, h3⟩ := hV
    have h1 : _ = Value.null := h1
    subst h1
    exact ⟨_, ⟨_, _, rfl, rfl, h3⟩, fun kk => lv_castN hx hb hd kk⟩
  · rename_i q r
    split at hs
    · rename_i t ht
      split at hs
      · rename_i hcast
        cases hs
        intro L E lc ls st' H locs cells slots hL hH hO hLS hn hV hS hc hk0
        obtain ⟨_, r', rfl, ⟨a, h2, ha⟩, h3⟩ := hV
        subst h2
        have hcell := mx_kd_nm hTb.2.1 hH ha hcast
        have hlink := hts _ (hT.2.2.2.2.2.2.1 _ _ _ ht)
        have kk := k L E lc ls (.ref a :: r') H locs cells slots hL hH hO hLS hn ⟨_, _, rfl, ⟨a, rfl, ha⟩, h3⟩ hS hc hk0
        rcases hTb.2.2.2.1 _ _ hcast with z | z
        · rw [z] at hcell
          exact va_castE hx hb hown hlink hcell hd kk
        · exact va_castY hx hb hown hlink z hcell hd kk
      · cases hs
    · cases hs
  · cases hs
theorem mx_k_lc2 {i : Nat} (hx : p.tables.exec = Jvm.exec) (hb : c.code = cc) (hT : mx_TOK) (hts : ∀ w ∈ lw_all, w.before args s = true) (hown : s.vm.findClass (mx_cls o) = some m.cls) (hd : decode cc pc = .ok (.ldc2_w i, 3)) (hs : mx_lc2 o i S = some S')
    (k : mx_G p l e R s m args below meth c Q D cas x A0 H0 L0 nL c0 k0 (pc + 3) S') : mx_G p l e R s m args below meth c Q D cas x A0 H0 L0 nL c0 k0 pc S := by
  unfold mx_lc2 at hs
  split at hs
  · rename_i v hv
    exact mx_k_push hs (fun g => ⟨_, rfl, fun H locs cells slots ls r kk => lv_ldc2 hx hb hown (hts _ (hT.2.2.2.2.1 _ _ _ hv)) hd kk⟩) k
  · cases hs
theorem mx_k_lc {i n : Nat} (hn : n = 2 ∨ n = 3) (hT : mx_TOK) (hTb : mx_Tb D cas x s) (row : ∀ (v : Int32), Cond.constant (mx_cls o) i v ∈ lw_all → ∀ (H : Heap) (locs : List Loc) (cells slots : Nat) (ls : Array Slot) (r : List Value), W p l e R s m args below meth c H locs cells slots Q (F0 m pc' ls (.int v :: r)) → W p l e R s m args below meth c H locs cells slots Q (F0 m pc ls r))
    (rowS : ∀ (tx : String) (q : Nat), vk_R (mx_cls o) i tx q s → ∀ (H : Heap) (locs : List Loc) (cells slots : Nat) (ls : Array Slot) (r : List Value), W p l e R s m args below meth c H locs cells slots Q (F0 m pc' ls (.ref q :: r)) → W p l e R s m args below meth c H locs cells slots Q (F0 m pc ls r)) (hs : mx_lc o i S = some S')
    (k : mx_G p l e R s m args below meth c Q D cas x A0 H0 L0 nL c0 k0 pc' S') : mx_G p l e R s m args below meth c Q D cas x A0 H0 L0 nL c0 k0 pc S := by
  unfold mx_lc at hs
  split at hs
  · rename_i v hv
    exact mx_k_push hs (fun g => ⟨_, rfl, fun H locs cells slots ls r kk => row v (hT.2.2.2.1 _ _ _ hv) H locs cells slots ls r kk⟩) k
  · split at hs
    · rename_i kk hkk
      obtain ⟨h18, tx, q, hR, hxq⟩ := hTb.2.2.2.2 _ _ _ hkk
      refine mx_k_push hs (fun g => ⟨.ref q, ⟨q, rfl, ?_⟩, fun H locs cells slots ls r kk2 => rowS tx q hR H locs cells slots ls r kk2⟩) k
      have e9 : (UInt32.ofNat kk).toNat = kk := by
        rw [UInt32.toNat_ofNat']
        omega
      rw [e9]
      exact hxq
    · cases hs
/-- what stands fixed while a method's body runs -/
def mx_Cx (p : Program) (s : State) (m : MethodId) (args : Array Value) (meth : Method) (c : Code) (cc : ByteArray) (o : Nat) (ini : Bool) (D : va_G) (cas : Nat → ClassId) (x : Nat → Nat → Prop) (A0 : Nat → Prop) (H0 : Heap) : Prop :=
  p.tables.exec = Jvm.exec ∧ c.code = cc ∧ mx_TOK ∧ mx_Tb D cas x s ∧ (∀ w ∈ lw_all, w.before args s = true) ∧ s.vm.findClass (mx_cls o) = some m.cls ∧ (ini = true → meth.name = "<init>") ∧ (∀ q, H0.size ≤ q → A0 q) ∧ (∀ c k, mx_fty c k ≠ .double ∧ mx_fty c k ≠ .float) ∧
  (∀ k q, k < 18 → x k q → ∃ cell : Cell, H0[q]? = some cell ∧ cell.vm.isStatics = false ∧ s.vm.findClass "java/lang/String" = some cell.cls ∧ ¬ A0 q)
theorem mx_sim_ok {i : Instr} {n : Nat} (C : mx_Cx p s m args meth c cc o ini D cas x A0 H0) (hbase : ∀ b, x 1000 b → va_X b S.2.2.1.1.1 S.2.2.1.1.2 s H0 ∧ ¬ A0 b ∧ b < H0.size) (hd : decode cc pc = .ok (i, n)) (hok : mx_okl pc i n = true) (hs : mx_sim o ini i S = some S') (hroom : S'.2.2.1.2.1 ≤ c0 + R.cells ∧ S'.2.2.1.2.2 ≤ k0 + R.slots)
    (k : mx_G p l e R s m args below meth c Q D cas x A0 H0 L0 nL c0 k0 (pc + n) S') : mx_G p l e R s m args below meth c Q D cas x A0 H0 L0 nL c0 k0 pc S := by
  obtain ⟨hx, hb, hT, hTb, hts, hown, hini, hA, hfl, hstr⟩ := C
  have hK := hTb.2.1
  have htb : ∀ w ∈ lw_tbl, mx_sd2 w = true → w.before args s = true := fun w h1 h2 => va_Nw.use (mx_sd2_side h2).2 (hTb.1 w h1 (mx_sd2_side h2).1)
  have hstr' : ∀ (H : Heap) (locs : List Loc), va_S A0 H0 H locs → ∀ k q, k < 18 → x k q → ∃ cell : Cell, H[q]? = some cell ∧ cell.vm.isStatics = false ∧ s.vm.findClass "java/lang/String" = some cell.cls := by
    intro H locs hS k q h1 h2
    obtain ⟨cell, g1, g2, g3, g4⟩ := hstr k q h1 h2
    exact ⟨cell, by rw [hS.2.1 q (Array.getElem?_eq_some_iff.mp g1).1 g4]; exact g1, g2, g3⟩
  have hbase' : ∀ (H : Heap) (locs : List Loc), va_S A0 H0 H locs → ∀ b, x 1000 b → va_X b S.2.2.1.1.1 S.2.2.1.1.2 s H0 ∧ ¬ A0 b ∧ b < H0.size := fun _ _ _ => hbase
  have ln : ∀ j, mx_okl pc i n = (n == j) → n = j := fun j h => by rw [h] at hok; simpa using hok
  cases i with
  | aconst_null => obtain rfl := ln 1 rfl; exact mx_k_push hs (fun g => ⟨_, rfl, fun H locs cells slots ls r kk => lv_null hx hb hd kk⟩) k
  | iconst z => obtain rfl := ln 1 rfl; exact mx_k_push hs (fun g => ⟨_, rfl, fun H locs cells slots ls r kk => lv_iconst hx hb hd rfl kk⟩) k
  | bipush z => obtain rfl := ln 2 rfl; exact mx_k_push hs (fun g => ⟨_, rfl, fun H locs cells slots ls r kk => lv_bipush hx hb hd rfl kk⟩) k
  | sipush z => obtain rfl := ln 3 rfl; exact mx_k_push hs (fun g => ⟨_, rfl, fun H locs cells slots ls r kk => lv_sipush hx hb hd rfl kk⟩) k
  | lconst z => obtain rfl := ln 1 rfl; exact mx_k_push hs (fun g => ⟨_, rfl, fun H locs cells slots ls r kk => lv_lconst hx hb hd rfl kk⟩) k
  | ldc z => obtain rfl := ln 2 rfl; exact mx_k_lc (Or.inl rfl) hT hTb (fun v hv H locs cells slots ls r kk => lv_ldc hx hb hown (hts _ hv) hd kk) (fun tx q hq H locs cells slots ls r kk => va_ldcS hx hb hown hq hd kk) hs k
  | ldc_w z =>
    obtain rfl := ln 3 rfl
    have hs : mx_lcw o z S = some S' := hs
    unfold mx_lcw at hs
    split at hs
    · rename_i v hv
      exact mx_k_push hs (fun g => ⟨_, rfl, fun H locs cells slots ls r kk => lv_ldcw hx hb hown (hts _ (hT.2.2.2.1 _ _ _ hv)) hd kk⟩) k
    · cases hs
  | ldc2_w z => obtain rfl := ln 3 rfl; exact mx_k_lc2 hx hb hT hts hown hd hs k
  | iload z => obtain rfl := ln 2 rfl; exact mx_k_ldI hs (fun H locs cells slots ls r a hl kk => lv_iload hx hb hd hl kk) k
  | iload_n z => obtain rfl := ln 1 rfl; exact mx_k_ldI hs (fun H locs cells slots ls r a hl kk => lv_iload_n hx hb hd rfl hl kk) k
  | lload z => obtain rfl := ln 2 rfl; exact mx_k_ldL hs (fun H locs cells slots ls r a hl kk => lv_lload hx hb hd hl kk) k
  | lload_n z => obtain rfl := ln 1 rfl; exact mx_k_ldL hs (fun H locs cells slots ls r a hl kk => lv_lload_n hx hb hd rfl hl kk) k
  | aload z => obtain rfl := ln 2 rfl; exact mx_k_ldA hs (fun H locs cells slots ls r a hl kk => lv_aload hx hb hd hl kk) (fun H locs cells slots ls r hl kk => lv_aloadN hx hb hd hl kk) k
  | aload_n z => obtain rfl := ln 1 rfl; exact mx_k_ldA hs (fun H locs cells slots ls r a hl kk => lv_aload_n hx hb hd rfl hl kk) (fun H locs cells slots ls r hl kk => lv_aload_nN hx hb hd rfl hl kk) k
  | istore z => obtain rfl := ln 2 rfl; exact mx_k_stI hs (fun H locs cells slots ls r lv n a h1 h2 kk => lv_istore hx hb hd h1 h2 rfl kk) k
  | istore_n z => obtain rfl := ln 1 rfl; exact mx_k_stI hs (fun H locs cells slots ls r lv n a h1 h2 kk => lv_istore_n hx hb hd rfl h1 h2 rfl kk) k
  | lstore z => obtain rfl := ln 2 rfl; exact mx_k_stL hs (fun H locs cells slots ls r lv n a h1 h2 kk => lv_lstore hx hb hd h1 h2 rfl kk) k
  | lstore_n z => obtain rfl := ln 1 rfl; exact mx_k_stL hs (fun H locs cells slots ls r lv n a h1 h2 kk => lv_lstore_n hx hb hd rfl h1 h2 rfl kk) k
  | astore z => obtain rfl := ln 2 rfl; exact mx_k_stA hs (fun H locs cells slots ls r lv n a h1 h2 kk => lv_astore hx hb hd h1 h2 rfl kk) (fun H locs cells slots ls r lv n h1 h2 kk => lv_astoreN hx hb hd h1 h2 rfl kk) k
  | astore_n z => obtain rfl := ln 1 rfl; exact mx_k_stA hs (fun H locs cells slots ls r lv n a h1 h2 kk => lv_astore_n hx hb hd rfl h1 h2 rfl kk) (fun H locs cells slots ls r lv n h1 h2 kk => lv_astore_nN hx hb hd rfl h1 h2 rfl kk) k
  | iinc z w => obtain rfl := ln 3 rfl; exact mx_k_inc hx hb hd hs k
  | dup => obtain rfl := ln 1 rfl; exact mx_k_dup hx hb hd hs k
  | dup2 => obtain rfl := ln 1 rfl; exact mx_k_dup2 hx hb hd hs k
  | iadd => obtain rfl := ln 1 rfl; exact mx_k_ii hs (fun H locs cells slots ls r a b kk => lv_iadd hx hb hd kk) k
  | isub => obtain rfl := ln 1 rfl; exact mx_k_ii hs (fun H locs cells slots ls r a b kk => lv_isub hx hb hd kk) k
  | imul => obtain rfl := ln 1 rfl; exact mx_k_ii hs (fun H locs cells slots ls r a b kk => lv_imul hx hb hd kk) k
  | iand => obtain rfl := ln 1 rfl; exact mx_k_ii hs (fun H locs cells slots ls r a b kk => lv_iand hx hb hd kk) k
  | ior => obtain rfl := ln 1 rfl; exact mx_k_ii hs (fun H locs cells slots ls r a b kk => lv_ior hx hb hd kk) k
  | ixor => obtain rfl := ln 1 rfl; exact mx_k_ii hs (fun H locs cells slots ls r a b kk => lv_ixor hx hb hd kk) k
  | ishl => obtain rfl := ln 1 rfl; exact mx_k_ii hs (fun H locs cells slots ls r a b kk => lv_ishl hx hb hd kk) k
  | ishr => obtain rfl := ln 1 rfl; exact mx_k_ii hs (fun H locs cells slots ls r a b kk => lv_ishr hx hb hd kk) k
  | iushr => obtain rfl := ln 1 rfl; exact mx_k_ii hs (fun H locs cells slots ls r a b kk => lv_iushr hx hb hd rfl kk) k
  | idiv => obtain rfl := ln 1 rfl; exact mx_k_dv hs (fun H locs cells slots ls r a b h0 kk => lv_idiv hx hb hd h0 kk) k
  | irem => obtain rfl := ln 1 rfl; exact mx_k_dv hs (fun H locs cells slots ls r a b h0 kk => lv_irem hx hb hd h0 kk) k
  | ladd => obtain rfl := ln 1 rfl; exact mx_k_ll hs (fun H locs cells slots ls r a b kk => lv_ladd hx hb hd kk) k
  | lsub => obtain rfl := ln 1 rfl; exact mx_k_ll hs (fun H locs cells slots ls r a b kk => lv_lsub hx hb hd kk) k
  | lmul => obtain rfl := ln 1 rfl; exact mx_k_ll hs (fun H locs cells slots ls r a b kk => lv_lmul hx hb hd kk) k
  | land => obtain rfl := ln 1 rfl; exact mx_k_ll hs (fun H locs cells slots ls r a b kk => lv_land hx hb hd kk) k
  | lor => obtain rfl := ln 1 rfl; exact mx_k_ll hs (fun H locs cells slots ls r a b kk => lv_lor hx hb hd kk) k
  | ldiv => obtain rfl := ln 1 rfl; exact mx_k_ldv hx hb hd hs k
  | lshl => obtain rfl := ln 1 rfl; exact mx_k_li hs (fun H locs cells slots ls r a b kk => lv_lshl hx hb hd rfl kk) k
  | lshr => obtain rfl := ln 1 rfl; exact mx_k_li hs (fun H locs cells slots ls r a b kk => lv_lshr hx hb hd rfl kk) k
  | i2l => obtain rfl := ln 1 rfl; exact mx_k_i1 hs (fun g a => rfl) (fun H locs cells slots ls r a kk => lv_i2l hx hb hd rfl kk) k
  | i2b => obtain rfl := ln 1 rfl; exact mx_k_i1 hs (fun g a => rfl) (fun H locs cells slots ls r a kk => lv_i2b hx hb hd rfl kk) k
  | i2s => obtain rfl := ln 1 rfl; exact mx_k_i1 hs (fun g a => rfl) (fun H locs cells slots ls r a kk => lv_i2s hx hb hd rfl kk) k
  | l2i => obtain rfl := ln 1 rfl; exact mx_k_l1 hs (fun g a => rfl) (fun H locs cells slots ls r a kk => lv_l2i hx hb hd rfl kk) k
  | lcmp => obtain rfl := ln 1 rfl; exact mx_k_lcmp hx hb hd hs k
  | iaload => obtain rfl := ln 1 rfl; exact mx_k_ald hx hb hK hd hbase' hs k
  | baload => obtain rfl := ln 1 rfl; exact mx_k_bld hx hb hK hd hs k
  | saload => obtain rfl := ln 1 rfl; exact mx_k_sld hx hb hK hd hs k
  | laload => obtain rfl := ln 1 rfl; exact mx_k_lld hx hb hK hd hs k
  | aaload => obtain rfl := ln 1 rfl; exact mx_k_qld hx hb hK hd hs k
  | iastore => obtain rfl := ln 1 rfl; exact mx_k_iast hx hb hK hd hs k
  | bastore => obtain rfl := ln 1 rfl; exact mx_k_bst hx hb hK hd hs k
  | sastore => obtain rfl := ln 1 rfl; exact mx_k_sast hx hb hK hd hs k
  | lastore => obtain rfl := ln 1 rfl; exact mx_k_lst hx hb hK hd hs k
  | aastore => obtain rfl := ln 1 rfl; exact mx_k_qst hx hb hT hTb hstr' hd hs k
  | arraylength => obtain rfl := ln 1 rfl; exact mx_k_alen hx hb hK hd hbase' hs k
  | getfield z => obtain rfl := ln 3 rfl; exact mx_k_gf hx hb hT hts htb hown hK hd hs k
  | putfield z => obtain rfl := ln 3 rfl; exact mx_k_pf hx hb hT hts htb hown hini hK hd hs k
  | new z => obtain rfl := ln 3 rfl; exact mx_k_nw hx hb hT hts hown hK hA hfl hd hs hroom k
  | newarray z => obtain rfl := ln 2 rfl; exact mx_k_na hx hb hT hts hK hA hd hs hroom k
  | anewarray z => obtain rfl := ln 3 rfl; exact mx_k_nq hx hb hT hts hTb.1 hown hK hA hd hs hroom k
  | checkcast z => obtain rfl := ln 3 rfl; exact mx_k_cc hx hb hT hTb hts hown hd hs k
  | instanceof z => obtain rfl := ln 3 rfl; exact mx_k_io hx hb hT hTb hts hown hd hs k
  | _ => cases hs
end MXM
