/-! PART 10: soundness of fields, constants, and of what is made -/
theorem ztg_big {k f : Nat} (h : 32 ≤ k) : ztg k f = 9 := by
  unfold ztg
  rw [List.getD_eq_getElem?_getD (l := zCT), List.getElem?_eq_none (by have : zCT.length = 31 := rfl; omega)]
  rfl
theorem zPh_wR {ph : Bool} {σ : zS} {a i x : Nat} (ht : ztg (zK a) i ≠ 3) (h : zPh ph σ) : zPh ph (zwR σ a i x) := by
  intro hp
  obtain ⟨h1, h2⟩ := h hp
  refine ⟨h1, fun r f hr hr2 h3 => ?_⟩
  rw [← h2 r f hr hr2 h3]
  by_cases e : r = a
  · subst e
    rw [zR_wR]
    unfold va_up
    rw [if_neg (fun e : f = i => ht (by rw [← e]; exact h3))]
  · rw [← (zwR_o (σ := σ) (r := a) (i := i) (v := x) r e).2.2]
theorem zPh_wRf {σ : zS} {a i x : Nat} (h : zPh false σ) : zPh false (zwR σ a i x) := fun hp => by cases hp
section ZV
variable {p : Program} {l : Launch} {e : Env} {R : Room} {s : State} {m : MethodId} {args : Array Value} {below : List Frame} {meth : Method} {c : Code} {nL : Nat} {G : zG} {ph : Bool} {n0 : Nat} {Q : State → Prop} {cc : ByteArray}
theorem zs_getf (hx : p.tables.exec = Jvm.exec) (hb : c.code = cc) (hKn : zKn G s) (hW : zWd s) {o : Nat} (hown : s.vm.findClass (zow o) = some m.cls) {pc i : Nat} {ls : zLs} {r : List Value} {σ : zS} {a k f n : Nat} (hd : decode cc pc = .ok (.getfield i, 3)) (hf : zfld o i = some (k, f, n))
    (h : zalk ph σ a k (zJ p l e R s m args below meth c nL G ph n0 Q (pc + 3) ls (zfv ph σ k f a :: r) σ)) : zJ p l e R s m args below meth c nL G ph n0 Q pc ls (.ref a :: r) σ := by
  intro lsc H locs a1 a2 a3 a4 a5 a6
  obtain ⟨f1, f2, f3, f4⟩ := zfld_ok hf
  obtain ⟨hk, h10, hn, h⟩ := zalk_i h a3 f1 f2
  obtain ⟨cell, c1, c2, c3, c4, c5, c6⟩ := (a2.2.2.1 a h10 hn).2 (by omega)
  obtain ⟨hS, hfc, kC, hkC, hkind⟩ := hKn.1 k f1 f2
  obtain ⟨cf, kf, fi, fd, hi, hsl⟩ := hS f f3
  have hts : ∀ w ∈ u_ws (zcn k) (zT k) (znf k), w.before args s = true := by
    intro w hw
    refine hW w (zlay f1 f2 w hw) ?_ args
    obtain ⟨j, -, rfl⟩ := List.mem_map.mp hw
    unfold u_lay
    split <;> rfl
  have hst := (u_facts (args := args) hfc hkC (u_lays hts (fun w h => h) f3) hi).1
  have hslot : cell.slots[fd.slot]? = some (zva G (zfv ph σ k f a)) := by
    rw [hsl]
    have := c6 f (by rw [hk]; exact f3)
    rw [hk] at this
    rw [this, zfv_e a3 h10 hk]
    rfl
  have h' := h lsc H locs a1 a2 a3 a4 a5 a6
  show W p l e R s m args below meth c H locs _ _ Q (F0 m pc lsc (zva G (.ref a) :: r.map (zva G)))
  rw [zva_ref G (by omega)]
  unfold zFw at f4
  cases n with
  | zero => exact W.getf hx hb hown (hW _ f4 rfl args) hi hst c1 (by rw [c3]; exact fun h => by cases h) hslot rfl rfl hd h'
  | succ n => exact va_Wgetf hx hb hown (hW _ f4 rfl args) hi hst c1 (by rw [c3]; exact fun h => by cases h) hslot rfl rfl hd h'
/-- the value v goes into field f of the object a -/
theorem zs_putw (hx : p.tables.exec = Jvm.exec) (hb : c.code = cc) (hKn : zKn G s) (hW : zWd s) {o : Nat} (hown : s.vm.findClass (zow o) = some m.cls) {pc i : Nat} {lsc : Array Slot} {r : List Value} {σ τ : zS} {H : Heap} {locs : List Loc} {cells slots : Nat} {a k f n : Nat} {v : Value} (hd : decode cc pc = .ok (.putfield i, 3)) (hf : zfld o i = some (k, f, n))
    (hfin : (zT k f).2.2.2 = true → meth.name = "<init>" ∧ (zT k f).1 = zow o ∧ n = 0) (hnar : narrow (zfty k f) v = v) (hfit : fits (zfty k f) v = true)
    (hk : zK a = k) (h10 : 10 ≤ a) (hn : a < zn σ) (a2 : zRel G s σ H) (hnn : zn τ = zn σ) (he : ∀ q, q ≠ a → zI σ q = zI τ q ∧ zL σ q = zL τ q ∧ zR σ q = zR τ q) (hv : ∀ j, j < znf k → zfc G τ k j a = updV (fun j => zfc G σ k j a) f v j)
    (kk : ∀ H' : Heap, zRel G s τ H' → ∀ i, W p l e R s m args below meth c H' (locs ++ [⟨zad G a, i⟩]) cells slots Q (F0 m (pc + 3) lsc r)) : W p l e R s m args below meth c H locs cells slots Q (F0 m pc lsc (v :: .ref (zad G a) :: r)) := by
  obtain ⟨f1, f2, f3, f4⟩ := zfld_ok hf
  obtain ⟨cell, c1, c2, c3, c4, c5, c6⟩ := (a2.2.2.1 a h10 hn).2 (by omega)
  obtain ⟨hS, hfc, kC, hkC, hkind⟩ := hKn.1 k f1 f2
  obtain ⟨cf, kf, fi, fd, hi, hsl⟩ := hS f f3
  have hts : ∀ w ∈ u_ws (zcn k) (zT k) (znf k), w.before args s = true := by
    intro w hw
    refine hW w (zlay f1 f2 w hw) ?_ args
    obtain ⟨j, -, rfl⟩ := List.mem_map.mp hw
    unfold u_lay
    split <;> rfl
  have hst := (u_facts (args := args) hfc hkC (u_lays hts (fun w h => h) f3) hi).1
  have hty : ∀ j, j < znf k → parseFieldDescriptor (zT k j).2.2.1 = some (zfty k j) := by
    intro j hj
    have := zty f1 f2 hj
    unfold ztyP at this
    simp only [Bool.and_eq_true, decide_eq_true_eq] at this
    exact this.1
  have hap : ∀ x y, x < znf k → y < znf k → x ≠ y → gI G k x ≠ gI G k y := by
    intro x y hx hy hne
    obtain ⟨_, _, _, fa, hia, ea⟩ := hS x hx
    obtain ⟨_, _, _, fb, hib, eb⟩ := hS y hy
    rw [← ea, ← eb]
    refine u_apart (u_lays hts (fun w h => h) hx) (u_lays hts (fun w h => h) hy) hia hib ?_
    rw [(State.fieldFound?_type hia (hty x hx)).1, (State.fieldFound?_type hib (hty y hy)).1]
    intro e
    have hnd := znm f1 f2
    have hx' : x < (zcf k).length := hx
    have hy' : y < (zcf k).length := hy
    have e' : ((zcf k).map (fun q => q.2.1))[x]'(by simpa using hx') = ((zcf k).map (fun q => q.2.1))[y]'(by simpa using hy') := by
      simp only [List.getElem_map]
      have ex : (zT k x) = (zcf k)[x] := by unfold zT; simp [List.getD_eq_getElem?_getD, hx']
      have ey : (zT k y) = (zcf k)[y] := by unfold zT; simp [List.getD_eq_getElem?_getD, hy']
      rw [← ex, ← ey]; exact e
    exact hne ((List.getElem_inj hnd).mp e')
  have hq4 : ∀ j, j < znf k → cell.slots[gI G k j]? = some ((fun j => zfc G σ k j a) j) := by
    intro j hj
    have := c6 j (by rw [hk]; exact hj)
    rw [hk] at this
    exact this
  have hlt : fd.slot < cell.slots.size := by rw [hsl]; exact k2_hasslot (hq4 f f3)
  have fin : ∀ H' : Heap, H'[zad G a]? = some (cell.setSlot fd.slot v) → H'.size = H.size → (∀ q, q ≠ zad G a → H'[q]? = H[q]?) → zRel G s τ H' := by
    intro H' e1 e2 e3
    rw [hsl] at e1
    refine zRel_w a2 h10 hnn e2 e3 he ⟨fun h => absurd h (by omega), fun _ => ⟨_, e1, by rw [hk]; rw [hk] at c2; exact c2, c3, c4, ⟨c5.1, by show (cell.slots.setIfInBounds _ _).size = _; rw [Array.size_setIfInBounds]; exact c5.2⟩, fun j hj => ?_⟩⟩
    rw [hk] at hj ⊢
    rw [hv j hj]
    exact t_set hq4 hap f3 v j hj
  have hft : fd.type = zfty k f := (State.fieldFound?_type hi (hty f f3)).2
  have hfs := u_fits (args := args) hfc hkC hkind (u_lays hts (fun w h => h) f3) hi (hty f f3) hnar hfit
  have hlay := hts _ (u_in_lay f3)
  unfold u_lay at hlay
  rw [hk] at c2
  by_cases hff : (zT k f).2.2.2 = true
  · obtain ⟨g1, g2, g3⟩ := hfin hff
    subst g3
    rw [if_pos hff] at hlay
    have hcf : m.cls = cf := by
      obtain ⟨_, _, c', _, _, _, -, -, hf', -, -, -, hown2, -⟩ := Cond.laysFinal_spec hlay
      have e1 : c' = cf := by have := hi.symm.trans hf'; simp at this; exact this.1.symm
      rw [g2] at hown2
      rw [← e1]; exact Option.some.inj (hown.symm.trans hown2)
    exact W.putFinK hx hb hown (hW _ f4 rfl args) hi hst hcf g1 (by rw [c2]; exact hfs) c1 c3 hlt rfl rfl hd fun H' e1 e2 e3 => kk H' (fin H' e1 e2 e3) _
  · rw [if_neg hff] at hlay
    have h6 := u_store (args := args) hfc hkC hkind hlay hi (hty f f3) hnar hfit
    unfold zFw at f4
    cases n with
    | zero => exact W.putK hx hb (f := fd) ⟨hown, hW _ f4 rfl args, ⟨_, _, _, hi⟩, hst⟩ (by rw [c2]; exact h6) c1 c3 hlt rfl rfl hd fun H' e1 e2 e3 => kk H' (fin H' e1 e2 e3) _
    | succ n => exact va_WputK hx hb (f := fd) hown (hW _ f4 rfl args) hi hst (by rw [c2]; exact h6) c1 c3 hlt rfl rfl hd fun H' e1 e2 e3 => kk H' (fin H' e1 e2 e3) _
end ZV
