/-! PART 11: soundness of putfield, of constants, of what is made -/
theorem zfv_c {σ τ : zS} {k j a : Nat} (h1 : zI σ a j = zI τ a j) (h2 : zL σ a j = zL τ a j) (h3 : zR σ a j = zR τ a j) : zfv false σ k j a = zfv false τ k j a := by
  unfold zfv
  rw [h1, h2, h3]
theorem zfc_wI {G : zG} {σ : zS} {k f a : Nat} {x : Int32} (h1 : ztg k f ≠ 1) (h2 : ztg k f ≠ 2) (h3 : ztg k f ≠ 3) (j : Nat) : zfc G (zwI σ a f x) k j a = updV (fun j => zfc G σ k j a) f (.int x) j := by
  unfold updV
  by_cases e : j = f
  · subst e
    rw [if_pos rfl]
    unfold zfc zfv
    rw [zI_wI]
    unfold va_up
    rw [if_pos rfl]
    split <;> first | rfl | (rename_i h; exact absurd h (by assumption))
  · rw [if_neg e]
    unfold zfc
    rw [zfv_c (σ := zwI σ a f x) (τ := σ)]
    · rw [zI_wI]; unfold va_up; rw [if_neg e]
    · rfl
    · rfl
theorem zfc_wL {G : zG} {σ : zS} {k f a : Nat} {x : Int64} (h1 : ztg k f = 1) (j : Nat) : zfc G (zwL σ a f x) k j a = updV (fun j => zfc G σ k j a) f (.long x) j := by
  unfold updV
  by_cases e : j = f
  · subst e
    rw [if_pos rfl]
    unfold zfc zfv
    rw [h1, zL_wL]
    unfold va_up
    rw [if_pos rfl]
    rfl
  · rw [if_neg e]
    unfold zfc
    rw [zfv_c (σ := zwL σ a f x) (τ := σ)]
    · rfl
    · rw [zL_wL]; unfold va_up; rw [if_neg e]
    · rfl
theorem zfc_wR {G : zG} {σ : zS} {k f a x : Nat} (h1 : ztg k f = 2 ∨ ztg k f = 3) (j : Nat) : zfc G (zwR σ a f x) k j a = updV (fun j => zfc G σ k j a) f (zva G (.ref x)) j := by
  unfold updV
  by_cases e : j = f
  · subst e
    rw [if_pos rfl]
    unfold zfc zfv
    rw [zR_wR]
    unfold va_up
    rw [if_pos rfl]
    rcases h1 with h1 | h1 <;> rw [h1] <;> rfl
  · rw [if_neg e]
    unfold zfc
    rw [zfv_c (σ := zwR σ a f x) (τ := σ)]
    · rfl
    · rfl
    · rw [zR_wR]; unfold va_up; rw [if_neg e]
theorem zva_fit (G : zG) {ty : FieldType} (x : Nat) (h : fits ty .null = true) : fits ty (zva G (.ref x)) = true ∧ narrow ty (zva G (.ref x)) = zva G (.ref x) := by
  cases x <;> cases ty <;> first | exact ⟨rfl, rfl⟩ | (simp [fits] at h)
section ZX
variable {p : Program} {l : Launch} {e : Env} {R : Room} {s : State} {m : MethodId} {args : Array Value} {below : List Frame} {meth : Method} {c : Code} {nL : Nat} {G : zG} {ph : Bool} {n0 : Nat} {Q : State → Prop} {cc : ByteArray}
/-- the putfields of a method are such as may be: a final field is written in its own class' constructor alone -/
def zpfOK (o : Nat) (ini : Bool) (ins : Instr) : Bool := match ins with
  | .putfield i => match zfld o i with
    | some (k, f, n) => !(zT k f).2.2.2 || (ini && decide ((zT k f).1 = zow o) && n == 0)
    | none => true
  | _ => true
theorem zs_putf (hx : p.tables.exec = Jvm.exec) (hb : c.code = cc) (hKn : zKn G s) (hW : zWd s) {o : Nat} (hown : s.vm.findClass (zow o) = some m.cls) {ini : Bool} (hini : ini = true → meth.name = "<init>") {pc i : Nat} {ls : zLs} {st : List Value} {σ : zS} {k f n : Nat} (hd : decode cc pc = .ok (.putfield i, 3)) (hf : zfld o i = some (k, f, n)) (hok : zpfOK o ini (.putfield i) = true)
    (h : zputf ph σ k f st (fun r τ => zJ p l e R s m args below meth c nL G ph n0 Q (pc + 3) ls r τ)) : zJ p l e R s m args below meth c nL G ph n0 Q pc ls st σ := by
  obtain ⟨f1, f2, f3, f4⟩ := zfld_ok hf
  have hfin : (zT k f).2.2.2 = true → meth.name = "<init>" ∧ (zT k f).1 = zow o ∧ n = 0 := by
    intro h2
    simp only [zpfOK, hf, h2, Bool.not_true, Bool.false_or, Bool.and_eq_true, decide_eq_true_eq, beq_iff_eq] at hok
    exact ⟨hini hok.1.1, hok.1.2, hok.2⟩
  have hty := zty f1 f2 f3
  unfold ztyP at hty
  rw [Bool.and_eq_true] at hty
  have hty := hty.2
  intro lsc H locs a1 a2 a3 a4 a5 a6
  unfold zputf at h
  match ht : ztg k f with
  | 0 =>
    rw [ht] at h hty
    obtain ⟨a, x, r, rfl, h⟩ := zpRI_i h
    obtain ⟨hk, h10, hn, h⟩ := zalk_i h a3 f1 f2
    simp only [Bool.and_eq_true, decide_eq_true_eq] at hty
    show W p l e R s m args below meth c H locs _ _ Q (F0 m pc lsc (.int x :: zva G (.ref a) :: r.map (zva G)))
    rw [zva_ref G (by omega)]
    exact zs_putw (τ := zwI σ a f x) hx hb hKn hW hown hd hf hfin (by rw [hty.1]; rfl) (by rw [hty.1]; rfl) hk h10 hn a2 rfl zwI_o (fun j _ => zfc_wI (by omega) (by omega) (by omega) j) (fun H' b2 i => h lsc H' _ a1 b2 (zPh_wI a3) (zlocs a4 h10) a5 a6)
  | 1 =>
    rw [ht] at h hty
    obtain ⟨a, x, r, rfl, h⟩ := zpRL_i h
    obtain ⟨hk, h10, hn, h⟩ := zalk_i h a3 f1 f2
    simp only [Bool.and_eq_true, decide_eq_true_eq] at hty
    show W p l e R s m args below meth c H locs _ _ Q (F0 m pc lsc (.long x :: zva G (.ref a) :: r.map (zva G)))
    rw [zva_ref G (by omega)]
    exact zs_putw (τ := zwL σ a f x) hx hb hKn hW hown hd hf hfin (by rw [hty.1]; rfl) (by rw [hty.1]; rfl) hk h10 hn a2 rfl zwL_o (fun j _ => zfc_wL ht j) (fun H' b2 i => h lsc H' _ a1 b2 (zPh_wL a3) (zlocs a4 h10) a5 a6)
  | 2 =>
    rw [ht] at h hty
    obtain ⟨a, x, r, rfl, h⟩ := zp2R_i h
    obtain ⟨hk, h10, hn, h⟩ := zalk_i h a3 f1 f2
    simp only [Bool.and_eq_true] at hty
    show W p l e R s m args below meth c H locs _ _ Q (F0 m pc lsc (zva G (.ref x) :: zva G (.ref a) :: r.map (zva G)))
    rw [zva_ref G (r := a) (by omega)]
    obtain ⟨g1, g2⟩ := zva_fit G x hty.1
    exact zs_putw (τ := zwR σ a f x) hx hb hKn hW hown hd hf hfin g2 g1 hk h10 hn a2 rfl zwR_o (fun j _ => zfc_wR (Or.inl ht) j) (fun H' b2 i => h lsc H' _ a1 b2 (zPh_wR (by rw [hk, ht]; decide) a3) (zlocs a4 h10) a5 a6)
  | 3 =>
    rw [ht] at h hty
    cases ph with
    | true => exact h.elim
    | false =>
      have h : zp2R st (fun a x r => zalk false σ a k (zJ p l e R s m args below meth c nL G false n0 Q (pc + 3) ls r (zwR σ a f x))) := h
      obtain ⟨a, x, r, rfl, h5⟩ := zp2R_i h
      obtain ⟨hk, h10, hn, h6⟩ := zalk_i h5 a3 f1 f2
      simp only [Bool.and_eq_true] at hty
      show W p l e R s m args below meth c H locs _ _ Q (F0 m pc lsc (zva G (.ref x) :: zva G (.ref a) :: r.map (zva G)))
      rw [zva_ref G (r := a) (by omega)]
      obtain ⟨g1, g2⟩ := zva_fit G x hty.1
      exact zs_putw (τ := zwR σ a f x) hx hb hKn hW hown hd hf hfin g2 g1 hk h10 hn a2 rfl zwR_o (fun j _ => zfc_wR (Or.inr ht) j) (fun H' b2 i => h6 lsc H' _ a1 b2 (zPh_wRf a3) (zlocs a4 h10) a5 a6)
  | 4 =>
    rw [ht] at h hty
    obtain ⟨a, x, r, rfl, h⟩ := zpRI_i h
    obtain ⟨hk, h10, hn, h0, h⟩ := zalk_i h a3 f1 f2
    simp only [Bool.and_eq_true, decide_eq_true_eq] at hty
    show W p l e R s m args below meth c H locs _ _ Q (F0 m pc lsc (.int x :: zva G (.ref a) :: r.map (zva G)))
    rw [zva_ref G (by omega)]
    refine zs_putw (τ := zwI σ a f x) hx hb hKn hW hown hd hf hfin ?_ ?_ hk h10 hn a2 rfl zwI_o (fun j _ => zfc_wI (by omega) (by omega) (by omega) j) (fun H' b2 i => h lsc H' _ a1 b2 (zPh_wI a3) (zlocs a4 h10) a5 a6)
    · rw [hty.1]; rcases h0 with rfl | rfl <;> decide
    · rw [hty.1]; rcases h0 with rfl | rfl <;> decide
  | 5 =>
    rw [ht] at h hty
    obtain ⟨a, x, r, rfl, h⟩ := zpRI_i h
    obtain ⟨hk, h10, hn, h⟩ := zalk_i h a3 f1 f2
    simp only [Bool.and_eq_true, decide_eq_true_eq] at hty
    show W p l e R s m args below meth c H locs _ _ Q (F0 m pc lsc (.int x :: zva G (.ref a) :: r.map (zva G)))
    rw [zva_ref G (by omega)]
    exact zs_putw (τ := zwI σ a f x) hx hb hKn hW hown hd hf hfin (by rw [hty.1]; rfl) (by rw [hty.1]; rfl) hk h10 hn a2 rfl zwI_o (fun j _ => zfc_wI (by omega) (by omega) (by omega) j) (fun H' b2 i => h lsc H' _ a1 b2 (zPh_wI a3) (zlocs a4 h10) a5 a6)
  | t + 6 =>
    rw [ht] at hty
    exact absurd hty (by simp)
theorem zsta_t : zckL [Cond.fieldLink "PackingHouse$Blocks" 139 "PackingHouse$Blocks" "STEPS" "[I", Cond.fieldLink "PackingHouse$Frame" 33 "PackingHouse$Frame" "MAGIC" "[I", Cond.fieldLink "PackingHouseModel" 484 "PackingHouseModel" "STEPS" "[I", Cond.fieldLink "PackingHouseModel" 797 "PackingHouseModel" "BENCH" "[I"] [(5, 223), (6, 65), (12, 207), (14, 86)] = true := by decide +kernel
theorem zsta_ok {o i r : Nat} (h : zsta o i = some r) : 2 ≤ r ∧ r < 6 ∧ Cond.fieldLink (zow o) i (zscn r) (zsnm r) "[I" ∈ lw_tbl := by
  unfold zsta at h
  split at h
  · cases h; exact ⟨by omega, by omega, zckL_in zsta_t _ (by show _ ∈ [_, _, _, _]; rw [show zow 9 = "PackingHouse$Blocks" from rfl]; simp [zscn, zsnm])⟩
  · cases h; exact ⟨by omega, by omega, zckL_in zsta_t _ (by show _ ∈ [_, _, _, _]; rw [show zow 18 = "PackingHouse$Frame" from rfl]; simp [zscn, zsnm])⟩
  · cases h; exact ⟨by omega, by omega, zckL_in zsta_t _ (by show _ ∈ [_, _, _, _]; rw [show zow 42 = "PackingHouseModel" from rfl]; simp [zscn, zsnm])⟩
  · cases h; exact ⟨by omega, by omega, zckL_in zsta_t _ (by show _ ∈ [_, _, _, _]; rw [show zow 42 = "PackingHouseModel" from rfl]; simp [zscn, zsnm])⟩
  · cases h
theorem zs_gets (hx : p.tables.exec = Jvm.exec) (hb : c.code = cc) (hW : zWd s) {o : Nat} (hown : s.vm.findClass (zow o) = some m.cls) {pc i : Nat} {ls : zLs} {st : List Value} {σ : zS} {v : Nat} (hd : decode cc pc = .ok (.getstatic i, 3)) (hf : zsta o i = some v)
    (h : zJ p l e R s m args below meth c nL G ph n0 Q (pc + 3) ls (.ref v :: st) σ) : zJ p l e R s m args below meth c nL G ph n0 Q pc ls st σ := by
  intro lsc H locs a1 a2 a3 a4 a5 a6
  obtain ⟨v1, v2, v3⟩ := zsta_ok hf
  obtain ⟨cf, kf, fi, f, a, cell, h1, h2, h3, h4, h5, h6, h7, h8⟩ := a2.2.2.2.2.1 v v1 v2
  have hk := h lsc H locs a1 a2 a3 a4 a5 a6
  have e1 : zva G (.ref v) = .ref (gX G v) := by
    rw [zva_ref G (by omega)]; unfold zad; rw [if_pos (by omega)]
  rw [List.map_cons, e1] at hk
  exact W.gets hx hb hown (hW _ v3 rfl args) h1 h2 h3 h4 h5 (fun e => by rw [e] at h6; cases h6) h7 rfl hd hk
theorem zs_ldc (hx : p.tables.exec = Jvm.exec) (hb : c.code = cc) (hW : zWd s) {o : Nat} (hown : s.vm.findClass (zow o) = some m.cls) {pc i : Nat} {ls : zLs} {st : List Value} {σ : zS} {v : Int32} (hd : decode cc pc = .ok (.ldc i, 2)) (hf : zcst o i = some v)
    (h : zJ p l e R s m args below meth c nL G ph n0 Q (pc + 2) ls (.int v :: st) σ) : zJ p l e R s m args below meth c nL G ph n0 Q pc ls st σ :=
  fun lsc H locs a1 a2 a3 a4 a5 a6 => lv_ldc hx hb hown (hW _ (zcst_ok hf) rfl args) hd (h lsc H locs a1 a2 a3 a4 a5 a6)
theorem zstr_ok {o i r : Nat} {G : zG} {U : State} (h : zstr o i = some r) (hS : zSr G U) : ∃ tx, vk_R (zow o) i tx (gX G r) U ∧ r ≠ 0 ∧ r < 10 := by
  unfold zstr at h
  split at h
  · cases h; exact ⟨_, hS.1, by omega, by omega⟩
  · cases h; exact ⟨_, hS.2, by omega, by omega⟩
  · cases h
theorem zs_ldcS (hx : p.tables.exec = Jvm.exec) (hb : c.code = cc) (hKn : zKn G s) {o : Nat} (hown : s.vm.findClass (zow o) = some m.cls) {pc i : Nat} {ls : zLs} {st : List Value} {σ : zS} {r : Nat} (hd : decode cc pc = .ok (.ldc i, 2)) (hf : zstr o i = some r)
    (h : zJ p l e R s m args below meth c nL G ph n0 Q (pc + 2) ls (.ref r :: st) σ) : zJ p l e R s m args below meth c nL G ph n0 Q pc ls st σ := by
  intro lsc H locs a1 a2 a3 a4 a5 a6
  obtain ⟨tx, v1, v2, v3⟩ := zstr_ok hf hKn.2.2
  have hk := h lsc H locs a1 a2 a3 a4 a5 a6
  have e1 : zva G (.ref r) = .ref (gX G r) := by
    rw [zva_ref G v2]; unfold zad; rw [if_pos v3]
  rw [List.map_cons, e1] at hk
  exact va_ldcS hx hb hown v1 hd hk
theorem zs_ldcw (hx : p.tables.exec = Jvm.exec) (hb : c.code = cc) (hW : zWd s) {o : Nat} (hown : s.vm.findClass (zow o) = some m.cls) {pc i : Nat} {ls : zLs} {st : List Value} {σ : zS} {v : Int32} (hd : decode cc pc = .ok (.ldc_w i, 3)) (hf : zcst o i = some v)
    (h : zJ p l e R s m args below meth c nL G ph n0 Q (pc + 3) ls (.int v :: st) σ) : zJ p l e R s m args below meth c nL G ph n0 Q pc ls st σ :=
  fun lsc H locs a1 a2 a3 a4 a5 a6 => lv_ldcw hx hb hown (hW _ (zcst_ok hf) rfl args) hd (h lsc H locs a1 a2 a3 a4 a5 a6)
theorem zs_ldc2 (hx : p.tables.exec = Jvm.exec) (hb : c.code = cc) (hW : zWd s) {o : Nat} (hown : s.vm.findClass (zow o) = some m.cls) {pc i : Nat} {ls : zLs} {st : List Value} {σ : zS} {v : Int64} (hd : decode cc pc = .ok (.ldc2_w i, 3)) (hf : zcsl o i = some v)
    (h : zJ p l e R s m args below meth c nL G ph n0 Q (pc + 3) ls (.long v :: st) σ) : zJ p l e R s m args below meth c nL G ph n0 Q pc ls st σ :=
  fun lsc H locs a1 a2 a3 a4 a5 a6 => lv_ldc2 hx hb hown (hW _ (zcsl_ok hf) rfl args) hd (h lsc H locs a1 a2 a3 a4 a5 a6)
end ZX
