/-! PART 03: the meaning is monotone; a frame may be run many steps at once -/
theorem zp1I_m {st : List Value} {k k' : Int32 → List Value → Prop} (h : ∀ a r, k a r → k' a r) : zp1I st k → zp1I st k' := by
  rcases st with _ | ⟨v, r⟩
  · exact id
  · cases v <;> first | exact h _ _ | exact id
theorem zp1L_m {st : List Value} {k k' : Int64 → List Value → Prop} (h : ∀ a r, k a r → k' a r) : zp1L st k → zp1L st k' := by
  rcases st with _ | ⟨v, r⟩
  · exact id
  · cases v <;> first | exact h _ _ | exact id
theorem zp1R_m {st : List Value} {k k' : Nat → List Value → Prop} (h : ∀ a r, k a r → k' a r) : zp1R st k → zp1R st k' := by
  rcases st with _ | ⟨v, r⟩
  · exact id
  · cases v <;> first | exact h _ _ | exact id
theorem zp2I_m {st : List Value} {k k' : Int32 → Int32 → List Value → Prop} (h : ∀ a b r, k a b r → k' a b r) : zp2I st k → zp2I st k' := by
  rcases st with _ | ⟨v, _ | ⟨w, r⟩⟩
  · exact id
  · cases v <;> exact id
  · cases v <;> cases w <;> first | exact h _ _ _ | exact id
theorem zp2L_m {st : List Value} {k k' : Int64 → Int64 → List Value → Prop} (h : ∀ a b r, k a b r → k' a b r) : zp2L st k → zp2L st k' := by
  rcases st with _ | ⟨v, _ | ⟨w, r⟩⟩
  · exact id
  · cases v <;> exact id
  · cases v <;> cases w <;> first | exact h _ _ _ | exact id
theorem zpLI_m {st : List Value} {k k' : Int64 → Int32 → List Value → Prop} (h : ∀ a b r, k a b r → k' a b r) : zpLI st k → zpLI st k' := by
  rcases st with _ | ⟨v, _ | ⟨w, r⟩⟩
  · exact id
  · cases v <;> exact id
  · cases v <;> cases w <;> first | exact h _ _ _ | exact id
theorem zp2R_m {st : List Value} {k k' : Nat → Nat → List Value → Prop} (h : ∀ a b r, k a b r → k' a b r) : zp2R st k → zp2R st k' := by
  rcases st with _ | ⟨v, _ | ⟨w, r⟩⟩
  · exact id
  · cases v <;> exact id
  · cases v <;> cases w <;> first | exact h _ _ _ | exact id
theorem zpRI_m {st : List Value} {k k' : Nat → Int32 → List Value → Prop} (h : ∀ a b r, k a b r → k' a b r) : zpRI st k → zpRI st k' := by
  rcases st with _ | ⟨v, _ | ⟨w, r⟩⟩
  · exact id
  · cases v <;> exact id
  · cases v <;> cases w <;> first | exact h _ _ _ | exact id
theorem zpRL_m {st : List Value} {k k' : Nat → Int64 → List Value → Prop} (h : ∀ a b r, k a b r → k' a b r) : zpRL st k → zpRL st k' := by
  rcases st with _ | ⟨v, _ | ⟨w, r⟩⟩
  · exact id
  · cases v <;> exact id
  · cases v <;> cases w <;> first | exact h _ _ _ | exact id
theorem zpRII_m {st : List Value} {k k' : Nat → Int32 → Int32 → List Value → Prop} (h : ∀ a b x r, k a b x r → k' a b x r) : zpRII st k → zpRII st k' := by
  rcases st with _ | ⟨v, _ | ⟨w, _ | ⟨u, r⟩⟩⟩
  · exact id
  · cases v <;> exact id
  · cases v <;> cases w <;> exact id
  · cases v <;> first | exact id | (cases w <;> first | exact id | (cases u <;> first | exact h _ _ _ _ | exact id))
theorem zpRIL_m {st : List Value} {k k' : Nat → Int32 → Int64 → List Value → Prop} (h : ∀ a b x r, k a b x r → k' a b x r) : zpRIL st k → zpRIL st k' := by
  rcases st with _ | ⟨v, _ | ⟨w, _ | ⟨u, r⟩⟩⟩
  · exact id
  · cases v <;> exact id
  · cases v <;> cases w <;> exact id
  · cases v <;> first | exact id | (cases w <;> first | exact id | (cases u <;> first | exact h _ _ _ _ | exact id))
theorem zpRIR_m {st : List Value} {k k' : Nat → Int32 → Nat → List Value → Prop} (h : ∀ a b x r, k a b x r → k' a b x r) : zpRIR st k → zpRIR st k' := by
  rcases st with _ | ⟨v, _ | ⟨w, _ | ⟨u, r⟩⟩⟩
  · exact id
  · cases v <;> exact id
  · cases v <;> cases w <;> exact id
  · cases v <;> first | exact id | (cases w <;> first | exact id | (cases u <;> first | exact h _ _ _ _ | exact id))
theorem zpv_m {st : List Value} {k k' : Value → List Value → Prop} (h : ∀ v r, k v r → k' v r) : zpv st k → zpv st k' := by
  rcases st with _ | ⟨v, r⟩
  · exact id
  · exact h _ _
theorem zpvv_m {st : List Value} {k k' : Value → Value → List Value → Prop} (h : ∀ v w r, k v w r → k' v w r) : zpvv st k → zpvv st k' := by
  rcases st with _ | ⟨v, _ | ⟨w, r⟩⟩
  · exact id
  · exact id
  · exact h _ _ _
theorem zpvvv_m {st : List Value} {k k' : Value → Value → Value → List Value → Prop} (h : ∀ v w u r, k v w u r → k' v w u r) : zpvvv st k → zpvvv st k' := by
  rcases st with _ | ⟨v, _ | ⟨w, _ | ⟨u, r⟩⟩⟩
  · exact id
  · exact id
  · exact id
  · exact h _ _ _ _
theorem zc1_m {v : Value} {P P' : Prop} (h : P → P') : zc1 v P → zc1 v P' := by
  unfold zc1
  cases v <;> first | exact h | exact id
theorem zgI_m {ls : zLs} {i : Nat} {k k' : Int32 → Prop} (h : ∀ x, k x → k' x) : zgI ls i k → zgI ls i k' := by
  unfold zgI
  cases zget ls i with
  | none => exact id
  | some v => cases v <;> first | exact h _ | exact id
theorem zgL_m {ls : zLs} {i : Nat} {k k' : Int64 → Prop} (h : ∀ x, k x → k' x) : zgL ls i k → zgL ls i k' := by
  unfold zgL
  cases zget ls i with
  | none => exact id
  | some v => cases v <;> first | exact h _ | exact id
theorem zgR_m {ls : zLs} {i : Nat} {k k' : Nat → Prop} (h : ∀ x, k x → k' x) : zgR ls i k → zgR ls i k' := by
  unfold zgR
  cases zget ls i with
  | none => exact id
  | some v => cases v <;> first | exact h _ | exact id
theorem zbr_m {c : Jvm.ClassFile.Cond} {x y : Int32} {A B A' B' : Prop} (h1 : A → A') (h2 : B → B') : zbr c x y A B → zbr c x y A' B' := by
  cases c <;> exact fun ⟨p, q⟩ => ⟨fun z => h1 (p z), fun z => h2 (q z)⟩
theorem ztab_m {pc : Nat} {Zt Zt' : Nat → Prop} {x : Int32} (h : ∀ t, Zt t → Zt' t) : ∀ (l : List Int) (lo : Int), ztab pc Zt x lo l → ztab pc Zt' x lo l
  | [], _ => id
  | _ :: t, lo => fun ⟨p, q⟩ => ⟨fun z => h _ (p z), ztab_m h t (lo + 1) q⟩
theorem zalo_m {ph : Bool} {σ : zS} {a : Nat} {P P' : Prop} (h : P → P') : zalo ph σ a P → zalo ph σ a P' := by
  cases ph
  · exact And.imp_right h
  · exact h
theorem zalk_m {ph : Bool} {σ : zS} {a k : Nat} {P P' : Prop} (h : P → P') : zalk ph σ a k P → zalk ph σ a k P' := by
  unfold zalk
  cases ph && !(k == 30)
  · exact And.imp_right (And.imp_right h)
  · exact And.imp_right h
theorem zod_m {α : Type} {x : Option α} {k k' : α → Prop} {P P' : Prop} (h : ∀ v, k v → k' v) (hP : P → P') : zod x k P → zod x k' P' := by
  cases x with
  | none => exact hP
  | some v => exact h v
theorem zoc_m {α : Type} {x : Option α} {k k' : α → Prop} (h : ∀ v, k v → k' v) : zoc x k → zoc x k' := by
  cases x
  · exact id
  · exact h _
theorem zputf_m {ph : Bool} {σ : zS} {k f : Nat} {st : List Value} {kk kk' : List Value → zS → Prop} (h : ∀ r τ, kk r τ → kk' r τ) : zputf ph σ k f st kk → zputf ph σ k f st kk' := by
  unfold zputf
  rcases ztg k f with _ | _ | _ | _ | _ | t
  · exact zpRI_m fun _ _ _ => zalk_m (h _ _)
  · exact zpRL_m fun _ _ _ => zalk_m (h _ _)
  · exact zp2R_m fun _ _ _ => zalk_m (h _ _)
  · cases ph
    · exact zp2R_m fun _ _ _ => zalk_m (h _ _)
    · exact id
  · exact zpRI_m fun _ _ _ => zalk_m (And.imp_right (h _ _))
  · exact zpRI_m fun _ _ _ => zalk_m (h _ _)
theorem zdup2_m {st : List Value} {kk kk' : List Value → Prop} (h : ∀ r, kk r → kk' r) : zdup2 st kk → zdup2 st kk' := by
  rcases st with _ | ⟨v, _ | ⟨w, r⟩⟩
  · exact id
  · cases v <;> first | exact h _ | exact id
  · cases v <;> first | exact h _ | exact zc1_m (h _) | exact id
theorem zretI_m {rt : Option FieldType} {st : List Value} {σ : zS} {K K' : zKt} (hK : ∀ v τ, K v τ → K' v τ) : zretI rt st σ K → zretI rt st σ K' := by
  rcases st with _ | ⟨v, _ | ⟨w, r⟩⟩
  · exact id
  · cases v
    case int =>
      rcases rt with _ | t
      · exact id
      · cases t <;> first | exact id | exact hK _ _ | exact And.imp_right (hK _ _)
    all_goals exact id
  · cases v <;> exact id
theorem zretL_m {rt : Option FieldType} {st : List Value} {σ : zS} {K K' : zKt} (hK : ∀ v τ, K v τ → K' v τ) : zretL rt st σ K → zretL rt st σ K' := by
  rcases st with _ | ⟨v, _ | ⟨w, r⟩⟩
  · exact id
  · cases v
    case long =>
      rcases rt with _ | t
      · exact id
      · cases t <;> first | exact id | exact hK _ _
    all_goals exact id
  · cases v <;> exact id
theorem zretA_m {rt : Option FieldType} {st : List Value} {σ : zS} {K K' : zKt} (hK : ∀ v τ, K v τ → K' v τ) : zretA rt st σ K → zretA rt st σ K' := by
  rcases st with _ | ⟨v, _ | ⟨w, r⟩⟩
  · exact id
  · cases v
    case ref =>
      rcases rt with _ | t
      · exact id
      · cases t <;> first | exact id | exact hK _ _
    all_goals exact id
  · cases v <;> exact id
theorem zretV_m {rt : Option FieldType} {st : List Value} {σ : zS} {K K' : zKt} (hK : ∀ v τ, K v τ → K' v τ) : zretV rt st σ K → zretV rt st σ K' := by
  rcases st with _ | ⟨v, r⟩
  · cases rt
    · exact hK _ _
    · exact id
  · exact id
theorem zacm_m {c : ACond} {a b : Nat} {A B A' B' : Prop} (h1 : A → A') (h2 : B → B') : zacm c a b A B → zacm c a b A' B' := by
  cases c <;> exact fun ⟨p, q⟩ => ⟨fun z => h1 (p z), fun z => h2 (q z)⟩
theorem zbl_m {b : Bool} {A B A' B' : Prop} (h1 : A → A') (h2 : B → B') : zbl b A B → zbl b A' B' := by
  cases b
  · exact h2
  · exact h1
section ZM
variable {o : Nat} {rt : Option FieldType} {ph : Bool} {ar : Nat → Nat} {C : Nat → zX} {hd : Nat → Option Nat} {K K' : zKt} {E E' : zEt} {Z Z' : zZt}
theorem zexc_m (hE : ∀ a τ, E a τ → E' a τ) (hZ : ∀ pc ls st σ, Z pc ls st σ → Z' pc ls st σ) {pc : Nat} {ls : zLs} (a : Nat) (τ : zS) : zexc hd E Z pc ls a τ → zexc hd E' Z' pc ls a τ := by
  unfold zexc
  cases hd pc with
  | none => exact hE _ _
  | some h => exact hZ _ _ _ _
theorem zinv_m (hC : ∀ i, zMono (C i)) (hE : ∀ a τ, E a τ → E' a τ) (hZ : ∀ pc ls st σ, Z pc ls st σ → Z' pc ls st σ) {i pc : Nat} {ls : zLs} {st : List Value} {σ : zS} : zinv ar C hd E Z i pc ls st σ → zinv ar C hd E' Z' i pc ls st σ := by
  unfold zinv
  cases Nat.ble (ar i) st.length && Nat.ble ((st.drop (ar i)).map (fun v => v.category)).sum 8
  · exact id
  · exact hC i _ _ _ _ _ _ (fun _ _ h => hZ _ _ _ _ h) (zexc_m hE hZ)
theorem zins_m (hC : ∀ i, zMono (C i)) (hK : ∀ v τ, K v τ → K' v τ) (hE : ∀ a τ, E a τ → E' a τ) (hZ : ∀ pc ls st σ, Z pc ls st σ → Z' pc ls st σ) {ins : Instr} {len pc : Nat} {ls : zLs} {st : List Value} {σ : zS} :
    zins o rt ph ar C hd K E Z ins len pc ls st σ → zins o rt ph ar C hd K' E' Z' ins len pc ls st σ := by
  cases ins
  case ldc i => exact zod_m (fun _ => hZ _ _ _ _) (zoc_m fun _ => hZ _ _ _ _)
  case getstatic i => exact zoc_m fun _ => hZ _ _ _ _
  case ldc_w i => exact zoc_m fun _ => hZ _ _ _ _
  case ldc2_w i => exact zoc_m fun _ => hZ _ _ _ _
  case dup => exact zpv_m fun _ _ => zc1_m (hZ _ _ _ _)
  case pop => exact zpv_m fun _ _ => zc1_m (hZ _ _ _ _)
  case dup_x1 => exact zpvv_m fun _ _ _ => zc1_m (zc1_m (hZ _ _ _ _))
  case dup_x2 => exact zpvvv_m fun _ _ _ _ => zc1_m (zc1_m (zc1_m (hZ _ _ _ _)))
  case dup2 => exact (zdup2_m (st := st) (kk := fun r => Z (pc + len) ls r σ) (kk' := fun r => Z' (pc + len) ls r σ) fun _ => hZ _ _ _ _)
  case ifCond c off => exact zp1I_m fun _ _ => zbr_m (hZ _ _ _ _) (hZ _ _ _ _)
  case if_icmp c off => exact zp2I_m fun _ _ _ => zbr_m (hZ _ _ _ _) (hZ _ _ _ _)
  case if_acmp c off => exact zp2R_m fun _ _ _ => And.imp_right (zacm_m (hZ _ _ _ _) (hZ _ _ _ _))
  case ifnull off => exact zp1R_m fun _ _ ⟨p, q⟩ => ⟨fun z => hZ _ _ _ _ (p z), fun z => hZ _ _ _ _ (q z)⟩
  case ifnonnull off => exact zp1R_m fun _ _ ⟨p, q⟩ => ⟨fun z => hZ _ _ _ _ (p z), fun z => hZ _ _ _ _ (q z)⟩
  case tableswitch d lo hi offs => exact zp1I_m fun _ _ ⟨p, q⟩ => ⟨ztab_m (fun _ => hZ _ _ _ _) _ _ p, fun z => hZ _ _ _ _ (q z)⟩
  case arraylength => exact zp1R_m fun _ _ => zbl_m (And.imp_right (And.imp_right (hZ _ _ _ _))) (zalo_m (And.imp_right (hZ _ _ _ _)))
  case iaload => exact zpRI_m fun _ _ _ => zbl_m (And.imp_right (And.imp_right (hZ _ _ _ _))) (zalo_m (And.imp_right (And.imp_right (hZ _ _ _ _))))
  case baload => exact zpRI_m fun _ _ _ => zalo_m (And.imp_right (And.imp_right (hZ _ _ _ _)))
  case laload => exact zpRI_m fun _ _ _ => zalo_m (And.imp_right (And.imp_right (hZ _ _ _ _)))
  case aaload => exact zpRI_m fun _ _ _ => zalo_m (And.imp_right (And.imp_right (hZ _ _ _ _)))
  case iastore => exact zpRII_m fun _ _ _ _ => zalo_m (And.imp_right (And.imp_right (hZ _ _ _ _)))
  case bastore => exact zpRII_m fun _ _ _ _ => zalo_m (And.imp_right (And.imp_right (hZ _ _ _ _)))
  case lastore => exact zpRIL_m fun _ _ _ _ => zalo_m (And.imp_right (And.imp_right (hZ _ _ _ _)))
  case aastore => exact zpRIR_m fun _ _ _ _ => zalo_m (zalo_m (And.imp_right (And.imp_right (And.imp_right (hZ _ _ _ _)))))
  case getfield i => exact zoc_m fun _ => zp1R_m fun _ _ => zalk_m (hZ _ _ _ _)
  case putfield i => exact zoc_m fun _ => zputf_m fun _ _ => hZ _ _ _ _
  case new i => exact zoc_m fun _ => And.imp_right (And.imp_right (hZ _ _ _ _))
  case newarray t => exact zp1I_m fun _ _ => And.imp_right (And.imp_right (And.imp_right (And.imp_right (hZ _ _ _ _))))
  case anewarray i => exact zoc_m fun _ => zp1I_m fun _ _ => And.imp_right (And.imp_right (And.imp_right (And.imp_right (hZ _ _ _ _))))
  case invokevirtual i => exact zinv_m hC hE hZ
  case invokespecial i => exact zinv_m hC hE hZ
  case invokestatic i => exact zinv_m hC hE hZ
  case ireturn => exact zretI_m hK
  case lreturn => exact zretL_m hK
  case areturn => exact zretA_m hK
  case return_ => exact zretV_m hK
  case athrow => exact zp1R_m fun _ _ => And.imp_right (And.imp_right (zexc_m hE hZ _ _))
  all_goals first
    | exact hZ _ _ _ _
    | exact id
    | exact zgI_m fun _ => hZ _ _ _ _
    | exact zgL_m fun _ => hZ _ _ _ _
    | exact zgR_m fun _ => hZ _ _ _ _
    | exact zp1I_m fun _ _ => hZ _ _ _ _
    | exact zp1L_m fun _ _ => hZ _ _ _ _
    | exact zp1R_m fun _ _ => hZ _ _ _ _
    | exact zp2I_m fun _ _ _ => hZ _ _ _ _
    | exact zp2I_m fun _ _ _ => And.imp_right (hZ _ _ _ _)
    | exact zp2L_m fun _ _ _ => hZ _ _ _ _
    | exact zp2L_m fun _ _ _ => And.imp_right (hZ _ _ _ _)
    | exact zpLI_m fun _ _ _ => hZ _ _ _ _
end ZM
def zCm (M : zM) : Prop := ∀ i, zMono (M.2.2.2.2.2.1 i)
theorem zstep_m {M : zM} (hC : zCm M) {K K' : zKt} {E E' : zEt} {Z Z' : zZt} (hK : ∀ v τ, K v τ → K' v τ) (hE : ∀ a τ, E a τ → E' a τ) (hZ : ∀ pc ls st σ, Z pc ls st σ → Z' pc ls st σ) {pc : Nat} {ls : zLs} {st : List Value} {σ : zS} :
    zstep M K E Z pc ls st σ → zstep M K' E' Z' pc ls st σ := by
  unfold zstep
  rcases ztb M.2.2.2.1 pc with _ | ⟨ins, len⟩
  · exact id
  · exact zins_m hC hK hE hZ
/-- a step forward -/
theorem zEx_s {M : zM} (hC : zCm M) {K : zKt} {E : zEt} {pc : Nat} {ls : zLs} {st : List Value} {σ : zS} (h : zstep M K E (zEx M K E) pc ls st σ) : zEx M K E pc ls st σ :=
  fun Z hZ hw => hZ _ _ _ _ (zstep_m hC (fun _ _ => id) (fun _ _ => id) (fun _ _ _ _ h' => h' Z hZ hw) h)
/-- fewer locals may be known -/
theorem zEx_w {M : zM} {K : zKt} {E : zEt} {pc : Nat} {ls ls' : zLs} {st : List Value} {σ : zS} (hs : ∀ q ∈ ls', q ∈ ls) (h : zEx M K E pc ls' st σ) : zEx M K E pc ls st σ := fun Z hZ hw => hw _ _ _ _ _ hs (h Z hZ hw)
def zpick (ls : zLs) (ks : List Nat) : zLs := ks.filterMap (fun k => ls[k]?)
theorem zEx_p {M : zM} {K : zKt} {E : zEt} {pc : Nat} {ls : zLs} {st : List Value} {σ : zS} (ks : List Nat) (h : zEx M K E pc (zpick ls ks) st σ) : zEx M K E pc ls st σ := zEx_w (fun q hq => by
  obtain ⟨k, -, hk⟩ := List.mem_filterMap.mp hq
  exact List.mem_of_getElem? hk) h
theorem zEx_m {M : zM} (hC : zCm M) {K K' : zKt} {E E' : zEt} (hK : ∀ v τ, K v τ → K' v τ) (hE : ∀ a τ, E a τ → E' a τ) {pc : Nat} {ls : zLs} {st : List Value} {σ : zS} (h : zEx M K E pc ls st σ) : zEx M K' E' pc ls st σ :=
  fun Z hZ hw => h Z (fun _ _ _ _ h' => hZ _ _ _ _ (zstep_m hC hK hE (fun _ _ _ _ => id) h')) hw
theorem zMe_m {M : zM} (hC : zCm M) (nL : Nat) : zMono (zMe M nL) := fun _ _ _ _ _ _ hK hE ⟨a, b⟩ => ⟨a, zEx_m hC hK hE b⟩
/-- many steps at once: up to one of the cut points, or n steps -/
def zrun (M : zM) (K : zKt) (E : zEt) (cut : Nat → Bool) : Nat → zZt
  | 0 => zEx M K E
  | n + 1 => zstep M K E (fun pc ls st σ => match cut pc with
    | true => zEx M K E pc ls st σ
    | false => zrun M K E cut n pc ls st σ)
theorem zEx_r {M : zM} (hC : zCm M) {K : zKt} {E : zEt} (cut : Nat → Bool) : ∀ (n : Nat) {pc : Nat} {ls : zLs} {st : List Value} {σ : zS}, zrun M K E cut n pc ls st σ → zEx M K E pc ls st σ
  | 0, _, _, _, _, h => h
  | n + 1, _, _, _, _, h => zEx_s hC (zstep_m hC (fun _ _ => id) (fun _ _ => id) (fun pc ls st σ h' => by
      revert h'
      cases cut pc
      · exact zEx_r hC cut n
      · exact id) h)
