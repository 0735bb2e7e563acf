/-! PART 90: the claim out of the law's meaning (lw_P, lw_Q, lw_pre_spec, lw_frame and the last rows began as the kit's SKELETON) -/
def R_law : String := "PackingHouseLaw"
def lw_P (b : Addr) (xs : List Int32) (args : Array Value) (s : State) : Prop := args = #[.ref b] ∧ s.IntsAt b xs ∧ xs.length ≤ 256 ∧ (Jvm.Cond.and given_1 narrow_1).before args s = true
def lw_Q (_ : Array Value) (s : State) (o : Outcome) (t : State) : Prop := o = .returned (some (.int 1)) ∧ Framed s o t [] 600128 7301098
/-- what is owed of the law, in plain terms -/
def zLawOK : Prop := ∀ (L : Nat) (xs : Nat → Int32), L ≤ 256 → X_Law_law false [.ref 1] (zS0 L xs) (fun v _ => v = some (.int 1)) (fun _ _ => False)
theorem zhasR {s : State} {pl : Platform} {R R' : Room} (h1 : R'.frames ≤ R.frames) (h2 : R'.cells ≤ R.cells) (h3 : R'.slots ≤ R.slots) (h4 : R'.locals ≤ R.locals) (h : s.hasRoom pl R = true) : s.hasRoom pl R' = true := by
  unfold State.hasRoom at h ⊢
  simp only [Bool.and_eq_true, decide_eq_true_eq] at h ⊢
  obtain ⟨⟨⟨⟨a, b1, b2, b3, b4, b5⟩, c⟩, d⟩, e⟩ := h
  exact ⟨⟨⟨⟨by omega, by omega, by omega, by omega, by omega, b5⟩, by omega⟩, by omega⟩, e⟩
theorem zappl {x : MethodName} {pl : Platform} {s : State} {S S' : Spec} {m : MethodId} {args : Array Value} {below : List Frame} (hf : s.frames = .invoking m args :: below) (h : S.appliesLoose x pl s = true) (h1 : s.hasRoom pl S.room = true → s.hasRoom pl S'.room = true) (h2 : S.pre.before args s = true → S'.pre.before args s = true) : S'.appliesLoose x pl s = true := by
  unfold Spec.appliesLoose at h ⊢
  rw [hf] at h ⊢
  simp only [Bool.and_eq_true] at h ⊢
  exact ⟨⟨h.1.1, h1 h.1.2⟩, h2 h.2⟩
theorem zslc : zsl zCap - zsl 10 ≤ 7301098 := by decide +kernel
theorem zfresh {s t : State} {L : List Loc} {k n k' n' : Nat} (h : s.sameButNew t L k n) (hL : ∀ q ∈ L, s.heap.size ≤ q.base) (hk : k ≤ k') (hn : n ≤ n') : s.sameButNew t [] k' n' := by
  obtain ⟨h1, h2, h3, h4, h5, h6⟩ := h
  refine ⟨h1, h2, by omega, h4, by omega, fun a c hc => ?_⟩
  obtain ⟨c', q1, q2, q3, q4⟩ := h6 a c hc
  refine ⟨c', q1, q2, q3, fun i _ => q4 i fun hm => ?_⟩
  have h9 := hL _ hm
  have h10 := (Array.getElem?_eq_some_iff.mp hc).1
  exact absurd h9 (Nat.not_le.mpr h10)
theorem lw_pre_spec {args : Array Value} {s : State} (h : (Jvm.Cond.and given_1 narrow_1).before args s = true) (hr : rest_1_c.before args s = true) : ∃ (b : Addr) (xs : List Int32), lw_P b xs args s := by
  have hs := flat_of_before _ h
  have hq := flat_of_before _ hr
  have hc : (Cond.count 1).before args s = true := hs _ (by decide +kernel)
  have harr : (Cond.arrayOf (.arg 0) .int).before args s = true := hs _ (by decide +kernel)
  have hle : (Cond.le (.length (.arg 0)) (.int 256)).before args s = true := hs _ (by decide +kernel)
  have hlen : (Cond.isInt (.length (.arg 0))).before args s = true := hq _ (by decide +kernel)
  have hall : (Cond.all (.arg 0) (.isInt (.elem (.arg 0) (.index 0)))).before args s = true := hq _ (by decide +kernel)
  obtain ⟨b, xs, hb, hx⟩ := State.ints_of_pre rfl harr hlen hall
  have hsm : xs.length < 2 ^ 31 := hx.choose_spec.2.2.2
  have hev : (Term.length (.arg 0)).eval args s none [] s = some (.int xs.length.toInt32) := hx.length_eval hb
  have hv := Cond.le_ints hev (show (Term.int 256).eval args s none [] s = some (.int 256) from rfl)
  have hd : xs.length.toInt32 ≤ 256 := by
    simpa [Cond.before, Cond.holds, hv] using hle
  have hN : xs.length ≤ 256 := (Int32.ofNat_le_ofNat hsm (by decide)).mp (show Int32.ofNat xs.length ≤ Int32.ofNat 256 from hd)
  exact ⟨b, xs, Cond.one_arg hc (show args[0]? = some (.ref b) from hb), hx, hN, h⟩
theorem lw_comes (H : zLawOK) (l : Launch) (hfl : l.flags = flags0) : Comes l x (Jvm.Cond.code x code maxLocals ret :: tables_1) room_1 (fun tb e args s => Calls_1 tb e args s ∧ rest_1 tb e args s ∧ Pre_1 tb e args s)
    (fun _ _ args s o t => lw_Q args s o t) := by
  intro p e ha hc hk s m args below hf hfit hheap happ hpre
  obtain ⟨b, xs, hP⟩ := lw_pre_spec hpre.2.2 hpre.2.1
  obtain ⟨rfl, hx, hbd, hgv⟩ := hP
  obtain ⟨scr, harrAt, hlist, hof, hsmall⟩ := hx
  obtain ⟨hcb, hkn, -, -⟩ := State.arrayAt?_spec harrAt
  have hal := ((Spec.applies_iff_loose hf).mp happ).1
  have hpreW : (headSpec (Jvm.Cond.code x code maxLocals ret :: tables_1) room_1).pre.before #[Value.ref b] s = true := by
    have h9 := hal
    unfold Spec.appliesLoose at h9
    rw [hf] at h9
    simp only [Bool.and_eq_true] at h9
    exact h9.2
  have hts0 : ∀ c ∈ (Jvm.Cond.code x code maxLocals ret :: tables_1), c.before #[Value.ref b] s = true := atoms_spec (ws := Jvm.Cond.code x code maxLocals ret :: tables_1) hpreW
  have hts : ∀ w ∈ lw_tbl, w.before #[Value.ref b] s = true := k2_hts_sels lw_privs (fun w hw => hts0 w (List.mem_cons_of_mem _ hw)) lw_privs_ok
  have hsz : scr.slots.size = xs.length := by rw [← Array.length_toList, hlist, List.length_map]
  have hval : ∀ j : Nat, j < xs.length → scr.slots[j]? = some (.int (xs.getD j 0)) := fun j hj => by
    rw [← Array.getElem?_toList, hlist]
    simp [hj]
  have hbl : b < s.heap.size := (Array.getElem?_eq_some_iff.mp hcb).1
  have hX : va_X b xs.length (fun j => xs.getD j 0) s s.heap := ⟨scr, hcb, hof, hkn, hsz, hval⟩
  obtain ⟨G, q1, q2, hW, hKn, hR⟩ := z_start hbd hts hX hbl hgv
  have M := ok_Law_law.2 l G [.ref 1] (zS0 xs.length (fun j => xs.getD j 0)) (fun v _ => v = some (.int 1)) (fun _ _ => False) hfl (H _ _ hbd) (show 10 ≤ zCap by decide)
  have hal2 : (headSpec [.code x code 4 ret] (zRm 18 392 (zn (zS0 xs.length (fun j => xs.getD j 0))))).appliesLoose x e.platform s = true := by
    refine zappl hf hal (fun h => zhasR (R := room_1) (show 18 ≤ 19 by decide) (show zCap - 10 ≤ 600128 by decide) zslc (show 392 ≤ 806 by decide) h) (fun _ => ?_)
    exact atoms_intro (ws := [.code x code 4 ret]) (fun v hv => by rw [List.mem_singleton] at hv; subst hv; exact hts0 _ List.mem_cons_self)
  obtain ⟨k, o, h1, h2, h3, hQ⟩ := M p e ha hc hk s m #[Value.ref b] below hf hal2 ⟨by show _ = #[zva G (.ref 1)]; rw [zva_ref G (by decide)]; unfold zad; rw [if_pos (by decide), q1], hW, hKn, hR, fun h => by cases h⟩ trivial
  refine ⟨k, o, h1, h2, h3, ?_⟩
  obtain ⟨τ, r1, r2, r3, r4, r5, r6, L, r7, r8⟩ := hQ
  have ho : o = .returned (some (.int 1)) := by
    cases o with
    | returned v =>
      obtain ⟨v', e1, e2⟩ := r1
      rw [e1, e2]; rfl
    | threw a =>
      obtain ⟨r, -, -, -, hF⟩ := r1
      exact hF.elim
  subst ho
  have hs2 := zsl_le r5
  have hs3 := zslc
  have e10 : zn (zS0 xs.length (fun j => xs.getD j 0)) = 10 := rfl
  rw [e10] at r8
  refine ⟨rfl, ⟨_, rfl⟩, r6, zfresh r8 (fun q hq => by rw [← q2]; exact r7 q hq) ?_ (by omega)⟩
  have : zCap ≤ 600128 := by decide
  omega
theorem lw_frame {s t : State} {o : Outcome} {args : Array Value} (h : Framed s o t [] 600128 7301098) :
    Framed s o t (fieldLocs frame_1_writes args s ++ arrayLocs frame_1_arrays args s ++ staticLocs frame_1_statics s) 600128 7301098 := h
theorem lw_limb (H : zLawOK) (L : Cond) (hL : ∀ (args : Array Value) (s t : State), L.after args s (.returned (some (.int 1))) t = true) :
    ArmFor flags0 classFile x code maxLocals ret World_1 tables_1 room_1 Calls_1 rest_1 Pre_1
      (fun tb e a s o t => postC L tb e a s o t ∧ Framed s o t (fieldLocs frame_1_writes a s ++ arrayLocs frame_1_arrays a s ++ staticLocs frame_1_statics s) 600128 7301098) := by
  intro l hh1 hh2 hh3 p e ha hc hk s m args below hf hfit hheap happ hpre
  obtain ⟨k, o, h1, h2, h3, rfl, hF⟩ := lw_comes H l hh1 p e ha hc hk s m args below hf hfit hheap happ hpre
  exact ⟨k, _, h1, h2, h3, hL args s _, lw_frame hF⟩
theorem i_vc_of (H : zLawOK) : Claimed_1_1 ∧ Claimed_1_2 := ⟨lw_limb H limb_1_1 (fun args s t => by simp [limb_1_1, Cond.after, Cond.holds, Cond.value]), lw_limb H limb_1_2 (fun args s t => Cond.after_iff.mpr (by
  first | (rw [show limb_1_2 = Cond.eq .result (.int 1) from rfl, Cond.eq_ints (x := 1) (y := 1) rfl rfl]; simp; done) | (simp [limb_1_2, Cond.value, Term.eval]; done)))⟩
