/-! PART 07 (printed by gen_snd2.py): soundness of the instructions that touch the frame alone -/
def zlenOK (ins : Instr) (len : Nat) : Bool := match ins with
  | .bipush _ | .iload _ | .lload _ | .aload _ | .istore _ | .lstore _ | .astore _ | .ldc _ | .newarray _ => len == 2
  | .sipush _ | .ldc_w _ | .ldc2_w _ | .goto _ | .ifCond .. | .if_icmp .. | .if_acmp .. | .ifnull _ | .ifnonnull _ | .getfield _ | .putfield _ | .new _ | .anewarray _ | .invokevirtual _ | .invokespecial _ | .invokestatic _ | .getstatic _ => len == 3
  | .iinc _ _ => len == 3 || len == 6
  | .tableswitch .. => true
  | _ => len == 1
def zrngOK (nL pc : Nat) (ins : Instr) : Bool := match ins with
  | .istore i => decide (i < nL)
  | .astore i => decide (i < nL)
  | .lstore i => decide (i + 1 < nL)
  | .istore_n i => decide ((i : Nat) < nL)
  | .astore_n i => decide ((i : Nat) < nL)
  | .lstore_n i => decide ((i : Nat) + 1 < nL)
  | .iinc i _ => decide (i < nL)
  | .goto off => decide (0 ≤ (pc : Int) + off)
  | .ifnull off => decide (0 ≤ (pc : Int) + off)
  | .ifnonnull off => decide (0 ≤ (pc : Int) + off)
  | .ifCond _ off => decide (0 ≤ (pc : Int) + off)
  | .if_icmp _ off => decide (0 ≤ (pc : Int) + off)
  | .if_acmp _ off => decide (0 ≤ (pc : Int) + off)
  | .tableswitch d lo hi offs => decide (0 ≤ (pc : Int) + d) && offs.toList.all (fun t => decide (0 ≤ (pc : Int) + t)) && decide (hi = lo + (offs.toList.length : Int) - 1)
  | _ => true
def zchk (nL pc : Nat) (ins : Instr) (len : Nat) : Bool := zlenOK ins len && zrngOK nL pc ins
theorem ztgt_e {pc : Nat} {off : Int} (h : 0 ≤ (pc : Int) + off) : (pc : Int) + off = ((ztgt pc off : Nat) : Int) := by
  unfold ztgt; omega
section ZS
variable {p : Program} {l : Launch} {e : Env} {R : Room} {s : State} {m : MethodId} {args : Array Value} {below : List Frame} {meth : Method} {c : Code} {nL : Nat} {G : zG} {ph : Bool} {n0 : Nat} {Q : State → Prop} {cc : ByteArray}
theorem zs_tab {pc len : Nat} {r : List Value} {x : Int32} {dflt lo hi : Int} {offs : Array Int} (hx : p.tables.exec = Jvm.exec) (hb : c.code = cc) (hd : decode cc pc = .ok (.tableswitch dflt lo hi offs, len))
    {lsc : Array Slot} {H : Heap} {locs : List Loc} {cells slots : Nat} (hn : hi = lo + (offs.toList.length : Int) - 1) (hr0 : 0 ≤ (pc : Int) + dflt) (hr : ∀ t ∈ offs.toList, 0 ≤ (pc : Int) + t)
    (h1 : ztab pc (fun t => W p l e R s m args below meth c H locs cells slots Q (F0 m t lsc (r.map (zva G)))) x lo offs.toList) (h2 : x.toInt < lo ∨ hi < x.toInt → W p l e R s m args below meth c H locs cells slots Q (F0 m (ztgt pc dflt) lsc (r.map (zva G)))) :
    W p l e R s m args below meth c H locs cells slots Q (F0 m pc lsc (.int x :: r.map (zva G))) := by
  by_cases ho : x.toInt < lo ∨ hi < x.toInt
  · exact lv_tableOut hx hb hd ho (ztgt_e hr0) (h2 ho)
  · have key : ∀ (t : List Int) (a : Int), ztab pc (fun t => W p l e R s m args below meth c H locs cells slots Q (F0 m t lsc (r.map (zva G)))) x a t → ∀ i, i < t.length → x.toInt = a + (i : Int) → ∃ off, t[i]? = some off ∧ W p l e R s m args below meth c H locs cells slots Q (F0 m (ztgt pc off) lsc (r.map (zva G))) := by
      intro t
      induction t with
      | nil => intro a _ i hi; simp at hi
      | cons u t ih =>
        intro a ⟨p1, p2⟩ i hi hx2
        cases i with
        | zero => exact ⟨u, rfl, p1 (by simpa using hx2)⟩
        | succ i =>
          obtain ⟨off, q1, q2⟩ := ih (a + 1) p2 i (by simpa using hi) (by push_cast at hx2; omega)
          exact ⟨off, by simpa using q1, q2⟩
    have e1 : x.toInt = lo + ((x.toInt - lo).toNat : Int) := by omega
    obtain ⟨off, q1, q2⟩ := key offs.toList lo h1 (x.toInt - lo).toNat (by omega) e1
    exact lv_tableIn hx hb hd (by omega) (by omega) (by simpa using q1) (ztgt_e (hr off (List.mem_of_getElem? q1))) q2
def zplain (ins : Instr) : Bool := match ins with
  | .iconst _ => true
  | .bipush _ => true
  | .sipush _ => true
  | .lconst _ => true
  | .aconst_null => true
  | .iload _ => true
  | .iload_n _ => true
  | .lload _ => true
  | .lload_n _ => true
  | .aload _ => true
  | .aload_n _ => true
  | .istore _ => true
  | .istore_n _ => true
  | .lstore _ => true
  | .lstore_n _ => true
  | .astore _ => true
  | .astore_n _ => true
  | .iinc _ _ => true
  | .iadd => true
  | .isub => true
  | .imul => true
  | .iand => true
  | .ior => true
  | .ixor => true
  | .ishl => true
  | .ishr => true
  | .iushr => true
  | .idiv => true
  | .irem => true
  | .ineg => true
  | .ladd => true
  | .lsub => true
  | .lmul => true
  | .land => true
  | .lor => true
  | .lxor => true
  | .ldiv => true
  | .lrem => true
  | .lshl => true
  | .lshr => true
  | .lushr => true
  | .lcmp => true
  | .i2l => true
  | .l2i => true
  | .i2b => true
  | .i2c => true
  | .dup => true
  | .pop => true
  | .dup_x1 => true
  | .dup_x2 => true
  | .dup2 => true
  | .goto _ => true
  | .ifCond _ _ => true
  | .if_icmp _ _ => true
  | .ifnull _ => true
  | .ifnonnull _ => true
  | .tableswitch .. => true
  | _ => false
theorem zs_plain {o : Nat} {rt : Option FieldType} {ar : Nat → Nat} {C : Nat → zX} {hd' : Nat → Option Nat} {K : zKt} {E : zEt} (hx : p.tables.exec = Jvm.exec) (hb : c.code = cc) {ins : Instr} {len pc : Nat} {ls : zLs} {st : List Value} {σ : zS}
    (hp : zplain ins = true) (hlen : zlenOK ins len = true) (hrng : zrngOK nL pc ins = true) (hd : decode cc pc = .ok (ins, len)) (h : zins o rt ph ar C hd' K E (zJ p l e R s m args below meth c nL G ph n0 Q) ins len pc ls st σ) :
    zJ p l e R s m args below meth c nL G ph n0 Q pc ls st σ := by
  cases ins
  case iconst =>
    obtain rfl : len = 1 := by simpa [zlenOK] using hlen
    exact fun lsc H locs a1 a2 a3 a4 a5 a6 => lv_iconst hx hb hd rfl (h lsc H locs a1 a2 a3 a4 a5 a6)
  case bipush =>
    obtain rfl : len = 2 := by simpa [zlenOK] using hlen
    exact fun lsc H locs a1 a2 a3 a4 a5 a6 => lv_bipush hx hb hd rfl (h lsc H locs a1 a2 a3 a4 a5 a6)
  case sipush =>
    obtain rfl : len = 3 := by simpa [zlenOK] using hlen
    exact fun lsc H locs a1 a2 a3 a4 a5 a6 => lv_sipush hx hb hd rfl (h lsc H locs a1 a2 a3 a4 a5 a6)
  case lconst =>
    obtain rfl : len = 1 := by simpa [zlenOK] using hlen
    exact fun lsc H locs a1 a2 a3 a4 a5 a6 => lv_lconst hx hb hd rfl (h lsc H locs a1 a2 a3 a4 a5 a6)
  case aconst_null =>
    obtain rfl : len = 1 := by simpa [zlenOK] using hlen
    exact fun lsc H locs a1 a2 a3 a4 a5 a6 => lv_null hx hb hd (h lsc H locs a1 a2 a3 a4 a5 a6)
  case iload =>
    obtain rfl : len = 2 := by simpa [zlenOK] using hlen
    obtain ⟨x, hg, h⟩ := zgI_i h
    exact fun lsc H locs a1 a2 a3 a4 a5 a6 => lv_iload hx hb hd (zget_c hg a1) (h lsc H locs a1 a2 a3 a4 a5 a6)
  case iload_n =>
    obtain rfl : len = 1 := by simpa [zlenOK] using hlen
    obtain ⟨x, hg, h⟩ := zgI_i h
    exact fun lsc H locs a1 a2 a3 a4 a5 a6 => lv_iload_n hx hb hd rfl (zget_c hg a1) (h lsc H locs a1 a2 a3 a4 a5 a6)
  case lload =>
    obtain rfl : len = 2 := by simpa [zlenOK] using hlen
    obtain ⟨x, hg, h⟩ := zgL_i h
    exact fun lsc H locs a1 a2 a3 a4 a5 a6 => lv_lload hx hb hd (zget_c hg a1) (h lsc H locs a1 a2 a3 a4 a5 a6)
  case lload_n =>
    obtain rfl : len = 1 := by simpa [zlenOK] using hlen
    obtain ⟨x, hg, h⟩ := zgL_i h
    exact fun lsc H locs a1 a2 a3 a4 a5 a6 => lv_lload_n hx hb hd rfl (zget_c hg a1) (h lsc H locs a1 a2 a3 a4 a5 a6)
  case aload =>
    obtain rfl : len = 2 := by simpa [zlenOK] using hlen
    obtain ⟨x, hg, h⟩ := zgR_i h
    intro lsc H locs a1 a2 a3 a4 a5 a6
    have h2 := h lsc H locs a1 a2 a3 a4 a5 a6
    have h3 := zget_c hg a1
    cases x with
    | zero => exact lv_aloadN hx hb hd h3 h2
    | succ x => exact lv_aload hx hb hd h3 h2
  case aload_n =>
    obtain rfl : len = 1 := by simpa [zlenOK] using hlen
    obtain ⟨x, hg, h⟩ := zgR_i h
    intro lsc H locs a1 a2 a3 a4 a5 a6
    have h2 := h lsc H locs a1 a2 a3 a4 a5 a6
    have h3 := zget_c hg a1
    cases x with
    | zero => exact lv_aload_nN hx hb hd rfl h3 h2
    | succ x => exact lv_aload_n hx hb hd rfl h3 h2
  case istore =>
    obtain rfl : len = 2 := by simpa [zlenOK] using hlen
    obtain ⟨x, r, rfl, h⟩ := zp1I_i h
    exact fun lsc H locs a1 a2 a3 a4 a5 a6 => lv_istore hx hb hd a1 (by simpa [zrngOK] using hrng) (zst1_c G ls _ (.int x)) (fun ls2 b1 => h ls2 H locs b1 a2 a3 a4 a5 a6)
  case istore_n =>
    obtain rfl : len = 1 := by simpa [zlenOK] using hlen
    obtain ⟨x, r, rfl, h⟩ := zp1I_i h
    exact fun lsc H locs a1 a2 a3 a4 a5 a6 => lv_istore_n hx hb hd rfl a1 (by simpa [zrngOK] using hrng) (zst1_c G ls _ (.int x)) (fun ls2 b1 => h ls2 H locs b1 a2 a3 a4 a5 a6)
  case lstore =>
    obtain rfl : len = 2 := by simpa [zlenOK] using hlen
    obtain ⟨x, r, rfl, h⟩ := zp1L_i h
    exact fun lsc H locs a1 a2 a3 a4 a5 a6 => lv_lstore hx hb hd a1 (by simpa [zrngOK] using hrng) (zst2_c G ls _ (.long x)) (fun ls2 b1 => h ls2 H locs b1 a2 a3 a4 a5 a6)
  case lstore_n =>
    obtain rfl : len = 1 := by simpa [zlenOK] using hlen
    obtain ⟨x, r, rfl, h⟩ := zp1L_i h
    exact fun lsc H locs a1 a2 a3 a4 a5 a6 => lv_lstore_n hx hb hd rfl a1 (by simpa [zrngOK] using hrng) (zst2_c G ls _ (.long x)) (fun ls2 b1 => h ls2 H locs b1 a2 a3 a4 a5 a6)
  case astore =>
    obtain rfl : len = 2 := by simpa [zlenOK] using hlen
    obtain ⟨x, r, rfl, h⟩ := zp1R_i h
    intro lsc H locs a1 a2 a3 a4 a5 a6
    cases x with
    | zero => exact lv_astoreN hx hb hd a1 (by simpa [zrngOK] using hrng) (zst1_c G ls _ (.ref 0)) (fun ls2 b1 => h ls2 H locs b1 a2 a3 a4 a5 a6)
    | succ x => exact lv_astore hx hb hd a1 (by simpa [zrngOK] using hrng) (zst1_c G ls _ (.ref (x + 1))) (fun ls2 b1 => h ls2 H locs b1 a2 a3 a4 a5 a6)
  case astore_n =>
    obtain rfl : len = 1 := by simpa [zlenOK] using hlen
    obtain ⟨x, r, rfl, h⟩ := zp1R_i h
    intro lsc H locs a1 a2 a3 a4 a5 a6
    cases x with
    | zero => exact lv_astore_nN hx hb hd rfl a1 (by simpa [zrngOK] using hrng) (zst1_c G ls _ (.ref 0)) (fun ls2 b1 => h ls2 H locs b1 a2 a3 a4 a5 a6)
    | succ x => exact lv_astore_n hx hb hd rfl a1 (by simpa [zrngOK] using hrng) (zst1_c G ls _ (.ref (x + 1))) (fun ls2 b1 => h ls2 H locs b1 a2 a3 a4 a5 a6)
  case iinc =>
    obtain ⟨x, hg, h⟩ := zgI_i h
    intro lsc H locs a1 a2 a3 a4 a5 a6
    obtain ⟨k, hk⟩ := zget_k (G := G) hg
    have hlen : len = 3 ∨ len = 6 := by simpa [zlenOK] using hlen
    rcases hlen with rfl | rfl
    · exact lv_iinc hx hb hd a1 hk rfl (by simpa [zrngOK] using hrng) (zst1_c G ls _ (.int _)) (fun ls2 b1 => h ls2 H locs b1 a2 a3 a4 a5 a6)
    · exact lv_iincW hx hb hd a1 hk rfl (by simpa [zrngOK] using hrng) (zst1_c G ls _ (.int _)) (fun ls2 b1 => h ls2 H locs b1 a2 a3 a4 a5 a6)
  case iadd =>
    obtain rfl : len = 1 := by simpa [zlenOK] using hlen
    obtain ⟨x, y, r, rfl, h⟩ := zp2I_i h
    exact fun lsc H locs a1 a2 a3 a4 a5 a6 => lv_iadd hx hb hd (h lsc H locs a1 a2 a3 a4 a5 a6)
  case isub =>
    obtain rfl : len = 1 := by simpa [zlenOK] using hlen
    obtain ⟨x, y, r, rfl, h⟩ := zp2I_i h
    exact fun lsc H locs a1 a2 a3 a4 a5 a6 => lv_isub hx hb hd (h lsc H locs a1 a2 a3 a4 a5 a6)
  case imul =>
    obtain rfl : len = 1 := by simpa [zlenOK] using hlen
    obtain ⟨x, y, r, rfl, h⟩ := zp2I_i h
    exact fun lsc H locs a1 a2 a3 a4 a5 a6 => lv_imul hx hb hd (h lsc H locs a1 a2 a3 a4 a5 a6)
  case iand =>
    obtain rfl : len = 1 := by simpa [zlenOK] using hlen
    obtain ⟨x, y, r, rfl, h⟩ := zp2I_i h
    exact fun lsc H locs a1 a2 a3 a4 a5 a6 => lv_iand hx hb hd (h lsc H locs a1 a2 a3 a4 a5 a6)
  case ior =>
    obtain rfl : len = 1 := by simpa [zlenOK] using hlen
    obtain ⟨x, y, r, rfl, h⟩ := zp2I_i h
    exact fun lsc H locs a1 a2 a3 a4 a5 a6 => lv_ior hx hb hd (h lsc H locs a1 a2 a3 a4 a5 a6)
  case ixor =>
    obtain rfl : len = 1 := by simpa [zlenOK] using hlen
    obtain ⟨x, y, r, rfl, h⟩ := zp2I_i h
    exact fun lsc H locs a1 a2 a3 a4 a5 a6 => lv_ixor hx hb hd (h lsc H locs a1 a2 a3 a4 a5 a6)
  case ishl =>
    obtain rfl : len = 1 := by simpa [zlenOK] using hlen
    obtain ⟨x, y, r, rfl, h⟩ := zp2I_i h
    exact fun lsc H locs a1 a2 a3 a4 a5 a6 => lv_ishl hx hb hd (h lsc H locs a1 a2 a3 a4 a5 a6)
  case ishr =>
    obtain rfl : len = 1 := by simpa [zlenOK] using hlen
    obtain ⟨x, y, r, rfl, h⟩ := zp2I_i h
    exact fun lsc H locs a1 a2 a3 a4 a5 a6 => lv_ishr hx hb hd (h lsc H locs a1 a2 a3 a4 a5 a6)
  case iushr =>
    obtain rfl : len = 1 := by simpa [zlenOK] using hlen
    obtain ⟨x, y, r, rfl, h⟩ := zp2I_i h
    exact fun lsc H locs a1 a2 a3 a4 a5 a6 => lv_iushr hx hb hd rfl (h lsc H locs a1 a2 a3 a4 a5 a6)
  case idiv =>
    obtain rfl : len = 1 := by simpa [zlenOK] using hlen
    obtain ⟨x, y, r, rfl, h0, h⟩ := zp2I_i h
    exact fun lsc H locs a1 a2 a3 a4 a5 a6 => lv_idiv hx hb hd h0 (h lsc H locs a1 a2 a3 a4 a5 a6)
  case irem =>
    obtain rfl : len = 1 := by simpa [zlenOK] using hlen
    obtain ⟨x, y, r, rfl, h0, h⟩ := zp2I_i h
    exact fun lsc H locs a1 a2 a3 a4 a5 a6 => lv_irem hx hb hd h0 (h lsc H locs a1 a2 a3 a4 a5 a6)
  case ineg =>
    obtain rfl : len = 1 := by simpa [zlenOK] using hlen
    obtain ⟨x, r, rfl, h⟩ := zp1I_i h
    exact fun lsc H locs a1 a2 a3 a4 a5 a6 => lv_ineg hx hb hd (h lsc H locs a1 a2 a3 a4 a5 a6)
  case ladd =>
    obtain rfl : len = 1 := by simpa [zlenOK] using hlen
    obtain ⟨x, y, r, rfl, h⟩ := zp2L_i h
    exact fun lsc H locs a1 a2 a3 a4 a5 a6 => lv_ladd hx hb hd (h lsc H locs a1 a2 a3 a4 a5 a6)
  case lsub =>
    obtain rfl : len = 1 := by simpa [zlenOK] using hlen
    obtain ⟨x, y, r, rfl, h⟩ := zp2L_i h
    exact fun lsc H locs a1 a2 a3 a4 a5 a6 => lv_lsub hx hb hd (h lsc H locs a1 a2 a3 a4 a5 a6)
  case lmul =>
    obtain rfl : len = 1 := by simpa [zlenOK] using hlen
    obtain ⟨x, y, r, rfl, h⟩ := zp2L_i h
    exact fun lsc H locs a1 a2 a3 a4 a5 a6 => lv_lmul hx hb hd (h lsc H locs a1 a2 a3 a4 a5 a6)
  case land =>
    obtain rfl : len = 1 := by simpa [zlenOK] using hlen
    obtain ⟨x, y, r, rfl, h⟩ := zp2L_i h
    exact fun lsc H locs a1 a2 a3 a4 a5 a6 => lv_land hx hb hd (h lsc H locs a1 a2 a3 a4 a5 a6)
  case lor =>
    obtain rfl : len = 1 := by simpa [zlenOK] using hlen
    obtain ⟨x, y, r, rfl, h⟩ := zp2L_i h
    exact fun lsc H locs a1 a2 a3 a4 a5 a6 => lv_lor hx hb hd (h lsc H locs a1 a2 a3 a4 a5 a6)
  case lxor =>
    obtain rfl : len = 1 := by simpa [zlenOK] using hlen
    obtain ⟨x, y, r, rfl, h⟩ := zp2L_i h
    exact fun lsc H locs a1 a2 a3 a4 a5 a6 => lv_lxor hx hb hd (h lsc H locs a1 a2 a3 a4 a5 a6)
  case ldiv =>
    obtain rfl : len = 1 := by simpa [zlenOK] using hlen
    obtain ⟨x, y, r, rfl, h0, h⟩ := zp2L_i h
    exact fun lsc H locs a1 a2 a3 a4 a5 a6 => lv_ldiv hx hb hd h0 (h lsc H locs a1 a2 a3 a4 a5 a6)
  case lrem =>
    obtain rfl : len = 1 := by simpa [zlenOK] using hlen
    obtain ⟨x, y, r, rfl, h0, h⟩ := zp2L_i h
    exact fun lsc H locs a1 a2 a3 a4 a5 a6 => lv_lrem hx hb hd h0 (h lsc H locs a1 a2 a3 a4 a5 a6)
  case lshl =>
    obtain rfl : len = 1 := by simpa [zlenOK] using hlen
    obtain ⟨x, y, r, rfl, h⟩ := zpLI_i h
    exact fun lsc H locs a1 a2 a3 a4 a5 a6 => lv_lshl hx hb hd rfl (h lsc H locs a1 a2 a3 a4 a5 a6)
  case lshr =>
    obtain rfl : len = 1 := by simpa [zlenOK] using hlen
    obtain ⟨x, y, r, rfl, h⟩ := zpLI_i h
    exact fun lsc H locs a1 a2 a3 a4 a5 a6 => lv_lshr hx hb hd rfl (h lsc H locs a1 a2 a3 a4 a5 a6)
  case lushr =>
    obtain rfl : len = 1 := by simpa [zlenOK] using hlen
    obtain ⟨x, y, r, rfl, h⟩ := zpLI_i h
    exact fun lsc H locs a1 a2 a3 a4 a5 a6 => lv_lushr hx hb hd rfl (h lsc H locs a1 a2 a3 a4 a5 a6)
  case lcmp =>
    obtain rfl : len = 1 := by simpa [zlenOK] using hlen
    obtain ⟨x, y, r, rfl, h⟩ := zp2L_i h
    exact fun lsc H locs a1 a2 a3 a4 a5 a6 => W.lcmp hx hb hd (h lsc H locs a1 a2 a3 a4 a5 a6)
  case i2l =>
    obtain rfl : len = 1 := by simpa [zlenOK] using hlen
    obtain ⟨x, r, rfl, h⟩ := zp1I_i h
    exact fun lsc H locs a1 a2 a3 a4 a5 a6 => lv_i2l hx hb hd rfl (h lsc H locs a1 a2 a3 a4 a5 a6)
  case l2i =>
    obtain rfl : len = 1 := by simpa [zlenOK] using hlen
    obtain ⟨x, r, rfl, h⟩ := zp1L_i h
    exact fun lsc H locs a1 a2 a3 a4 a5 a6 => lv_l2i hx hb hd rfl (h lsc H locs a1 a2 a3 a4 a5 a6)
  case i2b =>
    obtain rfl : len = 1 := by simpa [zlenOK] using hlen
    obtain ⟨x, r, rfl, h⟩ := zp1I_i h
    exact fun lsc H locs a1 a2 a3 a4 a5 a6 => lv_i2b hx hb hd rfl (h lsc H locs a1 a2 a3 a4 a5 a6)
  case i2c =>
    obtain rfl : len = 1 := by simpa [zlenOK] using hlen
    obtain ⟨x, r, rfl, h⟩ := zp1I_i h
    exact fun lsc H locs a1 a2 a3 a4 a5 a6 => lv_i2c hx hb hd rfl (h lsc H locs a1 a2 a3 a4 a5 a6)
  case dup =>
    obtain rfl : len = 1 := by simpa [zlenOK] using hlen
    obtain ⟨v, r, rfl, h⟩ := zpv_i h
    obtain ⟨c1, h⟩ := zc1_i h
    exact fun lsc H locs a1 a2 a3 a4 a5 a6 => lv_dup hx hb hd (by rw [zva_cat]; exact c1) (h lsc H locs a1 a2 a3 a4 a5 a6)
  case pop =>
    obtain rfl : len = 1 := by simpa [zlenOK] using hlen
    obtain ⟨v, r, rfl, h⟩ := zpv_i h
    obtain ⟨c1, h⟩ := zc1_i h
    exact fun lsc H locs a1 a2 a3 a4 a5 a6 => lv_pop hx hb hd (by rw [zva_cat]; exact c1) (h lsc H locs a1 a2 a3 a4 a5 a6)
  case dup_x1 =>
    obtain rfl : len = 1 := by simpa [zlenOK] using hlen
    obtain ⟨v, w, r, rfl, h⟩ := zpvv_i h
    obtain ⟨c1, h⟩ := zc1_i h
    obtain ⟨c2, h⟩ := zc1_i h
    exact fun lsc H locs a1 a2 a3 a4 a5 a6 => lv_dup_x1 hx hb hd (by rw [zva_cat]; exact c1) (by rw [zva_cat]; exact c2) (h lsc H locs a1 a2 a3 a4 a5 a6)
  case dup_x2 =>
    obtain rfl : len = 1 := by simpa [zlenOK] using hlen
    obtain ⟨v, w, u, r, rfl, h⟩ := zpvvv_i h
    obtain ⟨c1, h⟩ := zc1_i h
    obtain ⟨c2, h⟩ := zc1_i h
    obtain ⟨c3, h⟩ := zc1_i h
    exact fun lsc H locs a1 a2 a3 a4 a5 a6 => lv_dup_x2 hx hb hd (by rw [zva_cat]; exact c1) (by rw [zva_cat]; exact c2) (by rw [zva_cat]; exact c3) (h lsc H locs a1 a2 a3 a4 a5 a6)
  case dup2 =>
    obtain rfl : len = 1 := by simpa [zlenOK] using hlen
    rcases zdup2_i (k := fun r => zJ p l e R s m args below meth c nL G ph n0 Q (pc + 1) ls r σ) h with ⟨x, r, rfl, h⟩ | ⟨v, w, r, rfl, c1, c2, h⟩
    · exact fun lsc H locs a1 a2 a3 a4 a5 a6 => lv_dup2_2 hx hb hd rfl (h lsc H locs a1 a2 a3 a4 a5 a6)
    · exact fun lsc H locs a1 a2 a3 a4 a5 a6 => lv_dup2_11 hx hb hd (by rw [zva_cat]; exact c1) (by rw [zva_cat]; exact c2) (h lsc H locs a1 a2 a3 a4 a5 a6)
  case goto =>
    obtain rfl : len = 3 := by simpa [zlenOK] using hlen
    exact fun lsc H locs a1 a2 a3 a4 a5 a6 => lv_goto hx hb hd (ztgt_e (by simpa [zrngOK] using hrng)) (h lsc H locs a1 a2 a3 a4 a5 a6)
  case ifCond =>
    obtain rfl : len = 3 := by simpa [zlenOK] using hlen
    rename_i cnd off
    obtain ⟨x, r, rfl, h⟩ := zp1I_i h
    intro lsc H locs a1 a2 a3 a4 a5 a6
    have ht := ztgt_e (pc := pc) (off := off) (by simpa [zrngOK] using hrng)
    cases cnd
    case eq => exact lv_if_eq hx hb hd ht (fun z => h.1 z lsc H locs a1 a2 a3 a4 a5 a6) (fun z => h.2 z lsc H locs a1 a2 a3 a4 a5 a6)
    case ne => exact lv_if_ne hx hb hd ht (fun z => h.1 z lsc H locs a1 a2 a3 a4 a5 a6) (fun z => h.2 z lsc H locs a1 a2 a3 a4 a5 a6)
    case lt => exact lv_if_lt hx hb hd ht (fun z => h.1 z lsc H locs a1 a2 a3 a4 a5 a6) (fun z => h.2 z lsc H locs a1 a2 a3 a4 a5 a6)
    case ge => exact lv_if_ge hx hb hd ht (fun z => h.1 z lsc H locs a1 a2 a3 a4 a5 a6) (fun z => h.2 z lsc H locs a1 a2 a3 a4 a5 a6)
    case gt => exact lv_if_gt hx hb hd ht (fun z => h.1 z lsc H locs a1 a2 a3 a4 a5 a6) (fun z => h.2 z lsc H locs a1 a2 a3 a4 a5 a6)
    case le => exact lv_if_le hx hb hd ht (fun z => h.1 z lsc H locs a1 a2 a3 a4 a5 a6) (fun z => h.2 z lsc H locs a1 a2 a3 a4 a5 a6)
  case if_icmp =>
    obtain rfl : len = 3 := by simpa [zlenOK] using hlen
    rename_i cnd off
    obtain ⟨x, y, r, rfl, h⟩ := zp2I_i h
    intro lsc H locs a1 a2 a3 a4 a5 a6
    have ht := ztgt_e (pc := pc) (off := off) (by simpa [zrngOK] using hrng)
    cases cnd
    case eq => exact lv_icmp_eq hx hb hd ht (fun z => h.1 z lsc H locs a1 a2 a3 a4 a5 a6) (fun z => h.2 z lsc H locs a1 a2 a3 a4 a5 a6)
    case ne => exact lv_icmp_ne hx hb hd ht (fun z => h.1 z lsc H locs a1 a2 a3 a4 a5 a6) (fun z => h.2 z lsc H locs a1 a2 a3 a4 a5 a6)
    case lt => exact lv_icmp_lt hx hb hd ht (fun z => h.1 z lsc H locs a1 a2 a3 a4 a5 a6) (fun z => h.2 z lsc H locs a1 a2 a3 a4 a5 a6)
    case ge => exact lv_icmp_ge hx hb hd ht (fun z => h.1 z lsc H locs a1 a2 a3 a4 a5 a6) (fun z => h.2 z lsc H locs a1 a2 a3 a4 a5 a6)
    case gt => exact lv_icmp_gt hx hb hd ht (fun z => h.1 z lsc H locs a1 a2 a3 a4 a5 a6) (fun z => h.2 z lsc H locs a1 a2 a3 a4 a5 a6)
    case le => exact lv_icmp_le hx hb hd ht (fun z => h.1 z lsc H locs a1 a2 a3 a4 a5 a6) (fun z => h.2 z lsc H locs a1 a2 a3 a4 a5 a6)
  case ifnull =>
    obtain rfl : len = 3 := by simpa [zlenOK] using hlen
    obtain ⟨x, r, rfl, h1, h2⟩ := zp1R_i h
    intro lsc H locs a1 a2 a3 a4 a5 a6
    cases x with
    | zero => exact lv_ifnullN hx hb hd (ztgt_e (by simpa [zrngOK] using hrng)) (h1 rfl lsc H locs a1 a2 a3 a4 a5 a6)
    | succ x => exact lv_ifnull hx hb hd (h2 (Nat.succ_ne_zero x) lsc H locs a1 a2 a3 a4 a5 a6)
  case ifnonnull =>
    obtain rfl : len = 3 := by simpa [zlenOK] using hlen
    obtain ⟨x, r, rfl, h1, h2⟩ := zp1R_i h
    intro lsc H locs a1 a2 a3 a4 a5 a6
    cases x with
    | zero => exact lv_ifnonnullN hx hb hd (h2 rfl lsc H locs a1 a2 a3 a4 a5 a6)
    | succ x => exact lv_ifnonnull hx hb hd (ztgt_e (by simpa [zrngOK] using hrng)) (h1 (Nat.succ_ne_zero x) lsc H locs a1 a2 a3 a4 a5 a6)
  case tableswitch =>
    rename_i d lo hi offs
    obtain ⟨x, r, rfl, h1, h2⟩ := zp1I_i h
    simp only [zrngOK, Bool.and_eq_true, decide_eq_true_eq, List.all_eq_true] at hrng
    intro lsc H locs a1 a2 a3 a4 a5 a6
    exact zs_tab hx hb hd hrng.2 hrng.1.1 hrng.1.2 (ztab_m (fun t ht => ht lsc H locs a1 a2 a3 a4 a5 a6) _ _ h1) (fun z => h2 z lsc H locs a1 a2 a3 a4 a5 a6)
  all_goals exact absurd hp (by simp [zplain])
end ZS
