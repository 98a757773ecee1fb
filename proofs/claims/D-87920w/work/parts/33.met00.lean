set_option maxRecDepth 100000
set_option linter.unusedVariables false
section MT
variable {G : pmG} {lo : Nat} {H0 : Heap} {XE : State → Prop}
set_option maxHeartbeats 4000000 in
theorem met_X0_failure (l : Launch) : pmMet l G pmcl pmft pmkt pmNW pmFW XE pmXN lo H0 yX0_failure (ws_ yX0_failure cX0_failure 2 (some (.object "IdealCourt$Failure"))) 0 0 2 P_X0_failure := by
  refine pmMet.of (by decide +kernel) (by decide) ?_
  intro p e s m args below meth c R E hfr hlc F X hr hlocks hexc hnm
  refine wp_sim (V := fun b => pmV p l e R s m args below meth c G lo H0 2 pmcl pmft (vy_MQ below (pmQc G pmcl pmft lo H0 E) (pmXC G pmcl pmft pmXN lo H0 E) args s R.cells R.slots (fun q => lo ≤ q)) ((fun b => match b with | _ => 0 : Nat → Nat) b)) ?_ 0
  intro b Y hY
  match b with
  | _ =>
    show pm_le _ (pmV p l e R s m args below meth c G lo H0 2 pmcl pmft (vy_MQ below (pmQc G pmcl pmft lo H0 E) (pmXC G pmcl pmft pmXN lo H0 E) args s R.cells R.slots (fun q => lo ≤ q)) 0)
    exact (sm_aload_n F dX0_failure_0 rfl (sm_getR F cls_0 (k := 0) rfl (by decide) rfl q607 (fun _ h => h) dX0_failure_1 (sm_iload_n F dX0_failure_4 rfl (sm_ineg F dX0_failure_5 (sm_aald F (by decide) kt_111 rfl dX0_failure_6 (sm_aret F hr (Or.inl ⟨_, rfl⟩) hlocks dX0_failure_7))))))
set_option maxHeartbeats 4000000 in
theorem met_X0_need (l : Launch) : pmMet l G pmcl pmft pmkt pmNW pmFW XE pmXN lo H0 yX0_need (ws_ yX0_need cX0_need 3 none) 1 21 3 P_X0_need := by
  refine pmMet.of (by decide +kernel) (by decide) ?_
  intro p e s m args below meth c R E hfr hlc F X hr hlocks hexc hnm
  refine wp_sim (V := fun b => pmV p l e R s m args below meth c G lo H0 3 pmcl pmft (vy_MQ below (pmQc G pmcl pmft lo H0 E) (pmXC G pmcl pmft pmXN lo H0 E) args s R.cells R.slots (fun q => lo ≤ q)) ((fun b => match b with | _ => 0 : Nat → Nat) b)) ?_ 0
  intro b Y hY
  match b with
  | _ =>
    show pm_le _ (pmV p l e R s m args below meth c G lo H0 3 pmcl pmft (vy_MQ below (pmQc G pmcl pmft lo H0 E) (pmXC G pmcl pmft pmXN lo H0 E) args s R.cells R.slots (fun q => lo ≤ q)) 0)
    exact (sm_iload_n F dX0_need_0 rfl (sm_ifne F (tgt := 10) dX0_need_1 (by decide) (sm_vret F hr hlocks dX0_need_10) (sm_aload_n F dX0_need_4 rfl (sm_iload_n F dX0_need_5 rfl (sm_callV F X (met_X0_failure l) cls_0 (fun _ _ => cwV 1 F.1.2.2.2.2 (lw_V q762 q764 qs3 q99 q765) rfl rfl rfl (by decide +kernel) ⟨by rw [hfr]; exact Nat.le_of_ble_eq_true rfl, by rw [hlc]; exact Nat.le_of_ble_eq_true rfl⟩) dX0_need_6 (sm_athrow F cls_14 dX0_need_9 (sx_out hlocks (fun x hx => (hexc x hx).elim))) sx_none)))))
set_option maxHeartbeats 4000000 in
theorem met_X0_finds (l : Launch) : pmMet l G pmcl pmft pmkt pmNW pmFW XE pmXN lo H0 yX0_finds (ws_ yX0_finds cX0_finds 2 (some .int)) 0 0 2 P_X0_finds := by
  refine pmMet.of (by decide +kernel) (by decide) ?_
  intro p e s m args below meth c R E hfr hlc F X hr hlocks hexc hnm
  refine wp_sim (V := fun b => pmV p l e R s m args below meth c G lo H0 2 pmcl pmft (vy_MQ below (pmQc G pmcl pmft lo H0 E) (pmXC G pmcl pmft pmXN lo H0 E) args s R.cells R.slots (fun q => lo ≤ q)) ((fun b => match b with | _ => 0 : Nat → Nat) b)) ?_ 0
  intro b Y hY
  match b with
  | _ =>
    show pm_le _ (pmV p l e R s m args below meth c G lo H0 2 pmcl pmft (vy_MQ below (pmQc G pmcl pmft lo H0 E) (pmXC G pmcl pmft pmXN lo H0 E) args s R.cells R.slots (fun q => lo ≤ q)) 0)
    exact (sm_aload_n F dX0_finds_0 rfl (sm_getR F cls_0 (k := 1) rfl (by decide) rfl q608 (fun _ h => h) dX0_finds_1 (sm_aload_n F dX0_finds_4 rfl (sm_getIN F cls_14 (k := 6) rfl (by decide) rfl (X.1.1 _ nw_q576).2 (fun _ h => h) dX0_finds_5 (sm_ineg F dX0_finds_8 (sm_dup2 F dX0_finds_9 (sm_iald F kt_100 dX0_finds_10 (sm_iconst F dX0_finds_11 (by unfold inI; omega) (sm_iadd F dX0_finds_12 (sm_iast F kt_100 dX0_finds_13 (sm_aload_n F dX0_finds_14 rfl (sm_aload_n F dX0_finds_15 rfl (sm_getIN F cls_14 (k := 6) rfl (by decide) rfl (X.1.1 _ nw_q576).2 (fun _ h => h) dX0_finds_16 (sm_putI F cls_0 (k := 2) rfl (by decide) rfl rfl rfl q609 (fun _ h => h) dX0_finds_19 (sm_aload_n F dX0_finds_22 rfl (sm_getIN F cls_14 (k := 6) rfl (by decide) rfl (X.1.1 _ nw_q576).2 (fun _ h => h) dX0_finds_23 (sm_iret F hr hlocks dX0_finds_26)))))))))))))))))
set_option maxHeartbeats 4000000 in
theorem met_X0_say (l : Launch) : pmMet l G pmcl pmft pmkt pmNW pmFW XE pmXN lo H0 yX0_say (ws_ yX0_say cX0_say 2 none) 0 0 2 P_X0_say := by
  refine pmMet.of (by decide +kernel) (by decide) ?_
  intro p e s m args below meth c R E hfr hlc F X hr hlocks hexc hnm
  refine wp_sim (V := fun b => pmV p l e R s m args below meth c G lo H0 2 pmcl pmft (vy_MQ below (pmQc G pmcl pmft lo H0 E) (pmXC G pmcl pmft pmXN lo H0 E) args s R.cells R.slots (fun q => lo ≤ q)) ((fun b => match b with | _ => 0 : Nat → Nat) b)) ?_ 0
  intro b Y hY
  match b with
  | _ =>
    show pm_le _ (pmV p l e R s m args below meth c G lo H0 2 pmcl pmft (vy_MQ below (pmQc G pmcl pmft lo H0 E) (pmXC G pmcl pmft pmXN lo H0 E) args s R.cells R.slots (fun q => lo ≤ q)) 0)
    exact (sm_aload_n F dX0_say_0 rfl (sm_getR F cls_0 (k := 35) rfl (by decide) rfl q642 (fun _ h => h) dX0_say_1 (sm_aload_n F dX0_say_4 rfl (sm_getI F cls_0 (k := 36) rfl (by decide) rfl q643 (fun _ h => h) dX0_say_5 (sm_iload_n F dX0_say_8 rfl (sm_i2b F dX0_say_9 (sm_bast F kt_101 dX0_say_10 (sm_aload_n F dX0_say_11 rfl (sm_dup F dX0_say_12 (sm_getI F cls_0 (k := 36) rfl (by decide) rfl q643 (fun _ h => h) dX0_say_13 (sm_iconst F dX0_say_16 (by unfold inI; omega) (sm_iadd F dX0_say_17 (sm_putI F cls_0 (k := 36) rfl (by decide) rfl rfl rfl q643 (fun _ h => h) dX0_say_18 (sm_vret F hr hlocks dX0_say_21))))))))))))))
set_option maxHeartbeats 4000000 in
theorem met_X0_say_2 (l : Launch) : pmMet l G pmcl pmft pmkt pmNW pmFW XE pmXN lo H0 yX0_say_2 (ws_ yX0_say_2 cX0_say_2 4 none) 1 21 2 P_X0_say_2 := by
  refine pmMet.of (by decide +kernel) (by decide) ?_
  intro p e s m args below meth c R E hfr hlc F X hr hlocks hexc hnm
  refine wp_sim (V := fun b => pmV p l e R s m args below meth c G lo H0 4 pmcl pmft (vy_MQ below (pmQc G pmcl pmft lo H0 E) (pmXC G pmcl pmft pmXN lo H0 E) args s R.cells R.slots (fun q => lo ≤ q)) ((fun b => match b with | 0 => 0 | 1 => 13 | 2 => 20 | 3 => 28 | _ => 62 : Nat → Nat) b)) ?_ 0
  intro b Y hY
  match b with
  | 0 =>
    show pm_le _ (pmV p l e R s m args below meth c G lo H0 4 pmcl pmft (vy_MQ below (pmQc G pmcl pmft lo H0 E) (pmXC G pmcl pmft pmXN lo H0 E) args s R.cells R.slots (fun q => lo ≤ q)) 0)
    exact (sm_aload_n F dX0_say_2_0 rfl (sm_getIN F cls_3 (k := 1) rfl (by decide) rfl (X.1.1 _ nw_q189).2 (fun _ h => h) dX0_say_2_1 (sm_ifne F (tgt := 13) dX0_say_2_4 (by decide) (hY 1) (sm_aload_n F dX0_say_2_7 rfl (sm_bipush F dX0_say_2_8 ⟨by unfold inI; omega, by decide⟩ (sm_callV F X (met_X0_say l) cls_0 (fun _ _ => cwV 1 F.1.2.2.2.2 (lw_V q1158 q1160 qs21 q99 q1161) rfl rfl rfl (by decide +kernel) ⟨by rw [hfr]; exact Nat.le_of_ble_eq_true rfl, by rw [hlc]; exact Nat.le_of_ble_eq_true rfl⟩) dX0_say_2_10 (hY 1) sx_none))))))
  | 1 =>
    show pm_le _ (pmV p l e R s m args below meth c G lo H0 4 pmcl pmft (vy_MQ below (pmQc G pmcl pmft lo H0 E) (pmXC G pmcl pmft pmXN lo H0 E) args s R.cells R.slots (fun q => lo ≤ q)) 13)
    exact (sm_aload_n F dX0_say_2_13 rfl (sm_getIN F cls_3 (k := 1) rfl (by decide) rfl (X.1.1 _ nw_q189).2 (fun _ h => h) dX0_say_2_14 (sm_iconst F dX0_say_2_17 (by unfold inI; omega) (sm_isub F dX0_say_2_18 (sm_istore_n F dX0_say_2_19 rfl (by decide) (hY 2))))))
  | 2 =>
    show pm_le _ (pmV p l e R s m args below meth c G lo H0 4 pmcl pmft (vy_MQ below (pmQc G pmcl pmft lo H0 E) (pmXC G pmcl pmft pmXN lo H0 E) args s R.cells R.slots (fun q => lo ≤ q)) 20)
    exact (sm_iload_n F dX0_say_2_20 rfl (sm_iflt F (tgt := 98) dX0_say_2_21 (by decide) (sm_vret F hr hlocks dX0_say_2_98) (sm_ldcw F dX0_say_2_24 (by unfold inI; omega) q1178 (sm_istore_n F dX0_say_2_27 rfl (by decide) (hY 3)))))
  | 3 =>
    show pm_le _ (pmV p l e R s m args below meth c G lo H0 4 pmcl pmft (vy_MQ below (pmQc G pmcl pmft lo H0 E) (pmXC G pmcl pmft pmXN lo H0 E) args s R.cells R.slots (fun q => lo ≤ q)) 28)
    exact (sm_iload_n F dX0_say_2_28 rfl (sm_aload_n F dX0_say_2_29 rfl (sm_getIN F cls_3 (k := 1) rfl (by decide) rfl (X.1.1 _ nw_q189).2 (fun _ h => h) dX0_say_2_30 (sm_iconst F dX0_say_2_33 (by unfold inI; omega) (sm_isub F dX0_say_2_34 (sm_cmpne F (tgt := 62) dX0_say_2_35 (by decide) (hY 4) (sm_iload_n F dX0_say_2_38 rfl (sm_iconst F dX0_say_2_39 (by unfold inI; omega) (sm_cmple F (tgt := 62) dX0_say_2_40 (by decide) (hY 4) (sm_aload_n F dX0_say_2_43 rfl (sm_getRN F cls_3 (k := 0) rfl (by decide) rfl (X.1.1 _ nw_q183).2 (fun _ h => h) dX0_say_2_44 (sm_iload_n F dX0_say_2_47 rfl (sm_iald F kt_100 dX0_say_2_48 (sm_iload_n F dX0_say_2_49 rfl (sm_idiv F dX0_say_2_50 (sm_ifne F (tgt := 62) dX0_say_2_51 (by decide) (hY 4) (sm_iload_n F dX0_say_2_54 rfl (sm_bipush F dX0_say_2_55 ⟨by unfold inI; omega, by decide⟩ (sm_idiv F dX0_say_2_57 (sm_istore_n F dX0_say_2_58 rfl (by decide) (sm_goto F (tgt := 28) dX0_say_2_59 (by decide) (hY 3))))))))))))))))))))))
  | z + 4 =>
    show pm_le _ (pmV p l e R s m args below meth c G lo H0 4 pmcl pmft (vy_MQ below (pmQc G pmcl pmft lo H0 E) (pmXC G pmcl pmft pmXN lo H0 E) args s R.cells R.slots (fun q => lo ≤ q)) 62)
    exact (sm_iload_n F dX0_say_2_62 rfl (sm_ifle F (tgt := 92) dX0_say_2_63 (by decide) (sm_iinc F dX0_say_2_92 (by decide) (sm_goto F (tgt := 20) dX0_say_2_95 (by decide) (sm_kil (hY 2)))) (sm_aload_n F dX0_say_2_66 rfl (sm_bipush F dX0_say_2_67 ⟨by unfold inI; omega, by decide⟩ (sm_aload_n F dX0_say_2_69 rfl (sm_getRN F cls_3 (k := 0) rfl (by decide) rfl (X.1.1 _ nw_q183).2 (fun _ h => h) dX0_say_2_70 (sm_iload_n F dX0_say_2_73 rfl (sm_iald F kt_100 dX0_say_2_74 (sm_iload_n F dX0_say_2_75 rfl (sm_idiv F dX0_say_2_76 (sm_bipush F dX0_say_2_77 ⟨by unfold inI; omega, by decide⟩ (sm_irem F dX0_say_2_79 (sm_iadd F dX0_say_2_80 (sm_callV F X (met_X0_say l) cls_0 (fun _ _ => cwV 1 F.1.2.2.2.2 (lw_V q1158 q1160 qs21 q99 q1161) rfl rfl rfl (by decide +kernel) ⟨by rw [hfr]; exact Nat.le_of_ble_eq_true rfl, by rw [hlc]; exact Nat.le_of_ble_eq_true rfl⟩) dX0_say_2_81 (sm_iload_n F dX0_say_2_84 rfl (sm_bipush F dX0_say_2_85 ⟨by unfold inI; omega, by decide⟩ (sm_idiv F dX0_say_2_87 (sm_istore_n F dX0_say_2_88 rfl (by decide) (sm_goto F (tgt := 62) dX0_say_2_89 (by decide) (hY 4)))))) sx_none))))))))))))))
set_option maxHeartbeats 4000000 in
theorem met_X0_letter (l : Launch) : pmMet l G pmcl pmft pmkt pmNW pmFW XE pmXN lo H0 yX0_letter (wsW_ yX0_letter cX0_letter 3 (some .int) [(0, 29, 30, 7)]) 2 43 2 P_X0_letter := by
  refine pmMet.ofH (by decide +kernel) (by decide) ?_
  intro p e s m args below meth c R E hfr hlc F X hr hlocks htab hnm
  refine wp_sim (V := fun b => pmV p l e R s m args below meth c G lo H0 3 pmcl pmft (vy_MQ below (pmQc G pmcl pmft lo H0 E) (pmXC G pmcl pmft pmXN lo H0 E) args s R.cells R.slots (fun q => lo ≤ q)) ((fun b => match b with | 0 => 0 | 1 => 17 | 2 => 18 | _ => 30 : Nat → Nat) b)) ?_ 0
  intro b Y hY
  match b with
  | 0 =>
    show pm_le _ (pmV p l e R s m args below meth c G lo H0 3 pmcl pmft (vy_MQ below (pmQc G pmcl pmft lo H0 E) (pmXC G pmcl pmft pmXN lo H0 E) args s R.cells R.slots (fun q => lo ≤ q)) 0)
    exact (sm_aload_n F dX0_letter_0 rfl (sm_iload_n F dX0_letter_1 rfl (sm_iflt F (tgt := 17) dX0_letter_2 (by decide) (hY 1) (sm_iload_n F dX0_letter_5 rfl (sm_aload_n F dX0_letter_6 rfl (sm_getI F cls_0 (k := 36) rfl (by decide) rfl q643 (fun _ h => h) dX0_letter_7 (sm_cmpge F (tgt := 17) dX0_letter_10 (by decide) (hY 1) (sm_iconst F dX0_letter_13 (by unfold inI; omega) (sm_goto F (tgt := 18) dX0_letter_14 (by decide) (hY 2))))))))))
  | 1 =>
    show pm_le _ (pmV p l e R s m args below meth c G lo H0 3 pmcl pmft (vy_MQ below (pmQc G pmcl pmft lo H0 E) (pmXC G pmcl pmft pmXN lo H0 E) args s R.cells R.slots (fun q => lo ≤ q)) 17)
    exact (sm_iconst F dX0_letter_17 (by unfold inI; omega) (hY 2))
  | 2 =>
    show pm_le _ (pmV p l e R s m args below meth c G lo H0 3 pmcl pmft (vy_MQ below (pmQc G pmcl pmft lo H0 E) (pmXC G pmcl pmft pmXN lo H0 E) args s R.cells R.slots (fun q => lo ≤ q)) 18)
    exact (sm_bipush F dX0_letter_18 ⟨by unfold inI; omega, by decide⟩ (sm_callV F X (met_X0_need l) cls_0 (fun _ _ => cwV 2 F.1.2.2.2.2 (lw_V q766 q768 qs4 q99 q769) rfl rfl rfl (by decide +kernel) ⟨by rw [hfr]; exact Nat.le_of_ble_eq_true rfl, by rw [hlc]; exact Nat.le_of_ble_eq_true rfl⟩) dX0_letter_20 (sm_aload_n F dX0_letter_23 rfl (sm_getR F cls_0 (k := 35) rfl (by decide) rfl q642 (fun _ h => h) dX0_letter_24 (sm_iload_n F dX0_letter_27 rfl (sm_bald F kt_101 dX0_letter_28 (sm_iret F hr hlocks dX0_letter_29))))) (sx_catch F [] ⟨0, 29, 30, 7⟩ [] htab (List.forall_mem_nil _) rfl (by decide) (F.1.2.2.2.2 _ q143) (va_Nw.use rfl (X.1.1 _ nw_q510).2) (sm_kil (hY 3)))))
  | z + 3 =>
    show pm_le _ (pmV p l e R s m args below meth c G lo H0 3 pmcl pmft (vy_MQ below (pmQc G pmcl pmft lo H0 E) (pmXC G pmcl pmft pmXN lo H0 E) args s R.cells R.slots (fun q => lo ≤ q)) 30)
    exact (sm_astore_n F dX0_letter_30 rfl (by decide) (sm_aload_n F dX0_letter_31 rfl (sm_aload_n F dX0_letter_32 rfl (sm_callV F X (met_X0_finds l) cls_0 (fun _ _ => cwV 1 F.1.2.2.2.2 (lw_V q770 q772 qs5 q99 q773) rfl rfl rfl (by decide +kernel) ⟨by rw [hfr]; exact Nat.le_of_ble_eq_true rfl, by rw [hlc]; exact Nat.le_of_ble_eq_true rfl⟩) dX0_letter_33 (sm_iret F hr hlocks dX0_letter_36) sx_none))))
set_option maxHeartbeats 4000000 in
theorem met_X0_unrow (l : Launch) : pmMet l G pmcl pmft pmkt pmNW pmFW XE pmXN lo H0 yX0_unrow (ws_ yX0_unrow cX0_unrow 2 (some .int)) 0 0 1 P_X0_unrow := by
  refine pmMet.of (by decide +kernel) (by decide) ?_
  intro p e s m args below meth c R E hfr hlc F X hr hlocks hexc hnm
  refine wp_sim (V := fun b => pmV p l e R s m args below meth c G lo H0 2 pmcl pmft (vy_MQ below (pmQc G pmcl pmft lo H0 E) (pmXC G pmcl pmft pmXN lo H0 E) args s R.cells R.slots (fun q => lo ≤ q)) ((fun b => match b with | _ => 0 : Nat → Nat) b)) ?_ 0
  intro b Y hY
  match b with
  | _ =>
    show pm_le _ (pmV p l e R s m args below meth c G lo H0 2 pmcl pmft (vy_MQ below (pmQc G pmcl pmft lo H0 E) (pmXC G pmcl pmft pmXN lo H0 E) args s R.cells R.slots (fun q => lo ≤ q)) 0)
    exact (sm_aload_n F dX0_unrow_0 rfl (sm_getI F cls_0 (k := 20) rfl (by decide) rfl q627 (fun _ h => h) dX0_unrow_1 (sm_istore_n F dX0_unrow_4 rfl (by decide) (sm_aload_n F dX0_unrow_5 rfl (sm_iconst F dX0_unrow_6 (by unfold inI; omega) (sm_putI F cls_0 (k := 20) rfl (by decide) rfl rfl rfl q627 (fun _ h => h) dX0_unrow_7 (sm_iload_n F dX0_unrow_10 rfl (sm_iret F hr hlocks dX0_unrow_11))))))))
set_option maxHeartbeats 4000000 in
theorem met_X0_settle (l : Launch) : pmMet l G pmcl pmft pmkt pmNW pmFW XE pmXN lo H0 yX0_settle (ws_ yX0_settle cX0_settle 4 none) 0 0 2 P_X0_settle := by
  refine pmMet.of (by decide +kernel) (by decide) ?_
  intro p e s m args below meth c R E hfr hlc F X hr hlocks hexc hnm
  refine wp_sim (V := fun b => pmV p l e R s m args below meth c G lo H0 4 pmcl pmft (vy_MQ below (pmQc G pmcl pmft lo H0 E) (pmXC G pmcl pmft pmXN lo H0 E) args s R.cells R.slots (fun q => lo ≤ q)) ((fun b => match b with | _ => 0 : Nat → Nat) b)) ?_ 0
  intro b Y hY
  match b with
  | _ =>
    show pm_le _ (pmV p l e R s m args below meth c G lo H0 4 pmcl pmft (vy_MQ below (pmQc G pmcl pmft lo H0 E) (pmXC G pmcl pmft pmXN lo H0 E) args s R.cells R.slots (fun q => lo ≤ q)) 0)
    exact (sm_aload_n F dX0_settle_0 rfl (sm_getR F cls_0 (k := 26) rfl (by decide) rfl q633 (fun _ h => h) dX0_settle_1 (sm_astore_n F dX0_settle_4 rfl (by decide) (sm_aload_n F dX0_settle_5 rfl (sm_aload_n F dX0_settle_6 rfl (sm_getR F cls_0 (k := 27) rfl (by decide) rfl q634 (fun _ h => h) dX0_settle_7 (sm_putR F cls_0 (k := 26) rfl (by decide) rfl (Or.inl ⟨_, rfl⟩) rfl q633 (fun _ h => h) dX0_settle_10 (sm_aload_n F dX0_settle_13 rfl (sm_aload_n F dX0_settle_14 rfl (sm_putR F cls_0 (k := 27) rfl (by decide) rfl (Or.inl ⟨_, rfl⟩) rfl q634 (fun _ h => h) dX0_settle_15 (sm_aload_n F dX0_settle_18 rfl (sm_getR F cls_0 (k := 23) rfl (by decide) rfl q630 (fun _ h => h) dX0_settle_19 (sm_astore_n F dX0_settle_22 rfl (by decide) (sm_aload_n F dX0_settle_23 rfl (sm_aload_n F dX0_settle_24 rfl (sm_getR F cls_0 (k := 24) rfl (by decide) rfl q631 (fun _ h => h) dX0_settle_25 (sm_putR F cls_0 (k := 23) rfl (by decide) rfl (Or.inr ⟨_, rfl⟩) rfl q630 (fun _ h => h) dX0_settle_28 (sm_aload_n F dX0_settle_31 rfl (sm_aload_n F dX0_settle_32 rfl (sm_putR F cls_0 (k := 24) rfl (by decide) rfl (Or.inr ⟨_, rfl⟩) rfl q631 (fun _ h => h) dX0_settle_33 (sm_aload_n F dX0_settle_36 rfl (sm_iload_n F dX0_settle_37 rfl (sm_putI F cls_0 (k := 25) rfl (by decide) rfl rfl rfl q632 (fun _ h => h) dX0_settle_38 (sm_aload_n F dX0_settle_41 rfl (sm_iconst F dX0_settle_42 (by unfold inI; omega) (sm_putZ F cls_0 (k := 28) rfl (by decide) rfl rfl rfl q635 (fun _ h => h) dX0_settle_43 (sm_vret F hr hlocks dX0_settle_46)))))))))))))))))))))))))))
set_option maxHeartbeats 4000000 in
theorem met_X0_unideal (l : Launch) : pmMet l G pmcl pmft pmkt pmNW pmFW XE pmXN lo H0 yX0_unideal (ws_ yX0_unideal cX0_unideal 2 (some .int)) 0 0 1 P_X0_unideal := by
  refine pmMet.of (by decide +kernel) (by decide) ?_
  intro p e s m args below meth c R E hfr hlc F X hr hlocks hexc hnm
  refine wp_sim (V := fun b => pmV p l e R s m args below meth c G lo H0 2 pmcl pmft (vy_MQ below (pmQc G pmcl pmft lo H0 E) (pmXC G pmcl pmft pmXN lo H0 E) args s R.cells R.slots (fun q => lo ≤ q)) ((fun b => match b with | _ => 0 : Nat → Nat) b)) ?_ 0
  intro b Y hY
  match b with
  | _ =>
    show pm_le _ (pmV p l e R s m args below meth c G lo H0 2 pmcl pmft (vy_MQ below (pmQc G pmcl pmft lo H0 E) (pmXC G pmcl pmft pmXN lo H0 E) args s R.cells R.slots (fun q => lo ≤ q)) 0)
    exact (sm_aload_n F dX0_unideal_0 rfl (sm_getI F cls_0 (k := 22) rfl (by decide) rfl q629 (fun _ h => h) dX0_unideal_1 (sm_istore_n F dX0_unideal_4 rfl (by decide) (sm_aload_n F dX0_unideal_5 rfl (sm_iconst F dX0_unideal_6 (by unfold inI; omega) (sm_putI F cls_0 (k := 22) rfl (by decide) rfl rfl rfl q629 (fun _ h => h) dX0_unideal_7 (sm_iload_n F dX0_unideal_10 rfl (sm_iret F hr hlocks dX0_unideal_11))))))))
set_option maxHeartbeats 4000000 in
theorem met_X0_spanned (l : Launch) : pmMet l G pmcl pmft pmkt pmNW pmFW XE pmXN lo H0 yX0_spanned (ws_ yX0_spanned cX0_spanned 1 none) 2 43 1 P_X0_spanned := by
  refine pmMet.of (by decide +kernel) (by decide) ?_
  intro p e s m args below meth c R E hfr hlc F X hr hlocks hexc hnm
  refine wp_sim (V := fun b => pmV p l e R s m args below meth c G lo H0 1 pmcl pmft (vy_MQ below (pmQc G pmcl pmft lo H0 E) (pmXC G pmcl pmft pmXN lo H0 E) args s R.cells R.slots (fun q => lo ≤ q)) ((fun b => match b with | 0 => 0 | _ => 18 : Nat → Nat) b)) ?_ 0
  intro b Y hY
  match b with
  | 0 =>
    show pm_le _ (pmV p l e R s m args below meth c G lo H0 1 pmcl pmft (vy_MQ below (pmQc G pmcl pmft lo H0 E) (pmXC G pmcl pmft pmXN lo H0 E) args s R.cells R.slots (fun q => lo ≤ q)) 0)
    exact (sm_aload_n F dX0_spanned_0 rfl (sm_aload_n F dX0_spanned_1 rfl (sm_getR F cls_0 (k := 6) rfl (by decide) rfl q613 (fun _ h => h) dX0_spanned_2 (sm_getIN F cls_7 (k := 16) rfl (by decide) rfl (X.1.1 _ nw_q342).2 (fun _ h => h) dX0_spanned_5 (sm_bipush F dX0_spanned_8 ⟨by unfold inI; omega, by decide⟩ (sm_cmpeq F (tgt := 17) dX0_spanned_10 (by decide) (sm_iconst F dX0_spanned_17 (by unfold inI; omega) (sm_kil (hY 1))) (sm_iconst F dX0_spanned_13 (by unfold inI; omega) (sm_goto F (tgt := 18) dX0_spanned_14 (by decide) (sm_kil (hY 1))))))))))
  | z + 1 =>
    show pm_le _ (pmV p l e R s m args below meth c G lo H0 1 pmcl pmft (vy_MQ below (pmQc G pmcl pmft lo H0 E) (pmXC G pmcl pmft pmXN lo H0 E) args s R.cells R.slots (fun q => lo ≤ q)) 18)
    exact (sm_bipush F dX0_spanned_18 ⟨by unfold inI; omega, by decide⟩ (sm_callV F X (met_X0_need l) cls_0 (fun _ _ => cwV 2 F.1.2.2.2.2 (lw_V q766 q768 qs4 q99 q769) rfl rfl rfl (by decide +kernel) ⟨by rw [hfr]; exact Nat.le_of_ble_eq_true rfl, by rw [hlc]; exact Nat.le_of_ble_eq_true rfl⟩) dX0_spanned_20 (sm_vret F hr hlocks dX0_spanned_23) (sx_out hlocks (fun x hx => (hexc x hx).elim))))
set_option maxHeartbeats 4000000 in
theorem met_X0_found (l : Launch) : pmMet l G pmcl pmft pmkt pmNW pmFW XE pmXN lo H0 yX0_found (wsW_ yX0_found cX0_found 3 (some .int) [(0, 29, 30, 7)]) 2 43 2 P_X0_found := by
  refine pmMet.ofH (by decide +kernel) (by decide) ?_
  intro p e s m args below meth c R E hfr hlc F X hr hlocks htab hnm
  refine wp_sim (V := fun b => pmV p l e R s m args below meth c G lo H0 3 pmcl pmft (vy_MQ below (pmQc G pmcl pmft lo H0 E) (pmXC G pmcl pmft pmXN lo H0 E) args s R.cells R.slots (fun q => lo ≤ q)) ((fun b => match b with | 0 => 0 | 1 => 16 | 2 => 17 | _ => 30 : Nat → Nat) b)) ?_ 0
  intro b Y hY
  match b with
  | 0 =>
    show pm_le _ (pmV p l e R s m args below meth c G lo H0 3 pmcl pmft (vy_MQ below (pmQc G pmcl pmft lo H0 E) (pmXC G pmcl pmft pmXN lo H0 E) args s R.cells R.slots (fun q => lo ≤ q)) 0)
    exact (sm_aload_n F dX0_found_0 rfl (sm_iload_n F dX0_found_1 rfl (sm_bipush F dX0_found_2 ⟨by unfold inI; omega, by decide⟩ (sm_cmplt F (tgt := 16) dX0_found_4 (by decide) (hY 1) (sm_iload_n F dX0_found_7 rfl (sm_iconst F dX0_found_8 (by unfold inI; omega) (sm_cmpgt F (tgt := 16) dX0_found_9 (by decide) (hY 1) (sm_iconst F dX0_found_12 (by unfold inI; omega) (sm_goto F (tgt := 17) dX0_found_13 (by decide) (hY 2))))))))))
  | 1 =>
    show pm_le _ (pmV p l e R s m args below meth c G lo H0 3 pmcl pmft (vy_MQ below (pmQc G pmcl pmft lo H0 E) (pmXC G pmcl pmft pmXN lo H0 E) args s R.cells R.slots (fun q => lo ≤ q)) 16)
    exact (sm_iconst F dX0_found_16 (by unfold inI; omega) (hY 2))
  | 2 =>
    show pm_le _ (pmV p l e R s m args below meth c G lo H0 3 pmcl pmft (vy_MQ below (pmQc G pmcl pmft lo H0 E) (pmXC G pmcl pmft pmXN lo H0 E) args s R.cells R.slots (fun q => lo ≤ q)) 17)
    exact (sm_bipush F dX0_found_17 ⟨by unfold inI; omega, by decide⟩ (sm_callV F X (met_X0_need l) cls_0 (fun _ _ => cwV 2 F.1.2.2.2.2 (lw_V q766 q768 qs4 q99 q769) rfl rfl rfl (by decide +kernel) ⟨by rw [hfr]; exact Nat.le_of_ble_eq_true rfl, by rw [hlc]; exact Nat.le_of_ble_eq_true rfl⟩) dX0_found_19 (sm_aload_n F dX0_found_22 rfl (sm_getR F cls_0 (k := 1) rfl (by decide) rfl q608 (fun _ h => h) dX0_found_23 (sm_iload_n F dX0_found_26 rfl (sm_ineg F dX0_found_27 (sm_iald F kt_100 dX0_found_28 (sm_iret F hr hlocks dX0_found_29)))))) (sx_catch F [] ⟨0, 29, 30, 7⟩ [] htab (List.forall_mem_nil _) rfl (by decide) (F.1.2.2.2.2 _ q143) (va_Nw.use rfl (X.1.1 _ nw_q510).2) (sm_kil (hY 3)))))
  | z + 3 =>
    show pm_le _ (pmV p l e R s m args below meth c G lo H0 3 pmcl pmft (vy_MQ below (pmQc G pmcl pmft lo H0 E) (pmXC G pmcl pmft pmXN lo H0 E) args s R.cells R.slots (fun q => lo ≤ q)) 30)
    exact (sm_astore_n F dX0_found_30 rfl (by decide) (sm_aload_n F dX0_found_31 rfl (sm_aload_n F dX0_found_32 rfl (sm_callV F X (met_X0_finds l) cls_0 (fun _ _ => cwV 1 F.1.2.2.2.2 (lw_V q770 q772 qs5 q99 q773) rfl rfl rfl (by decide +kernel) ⟨by rw [hfr]; exact Nat.le_of_ble_eq_true rfl, by rw [hlc]; exact Nat.le_of_ble_eq_true rfl⟩) dX0_found_33 (sm_iret F hr hlocks dX0_found_36) sx_none))))
set_option maxHeartbeats 4000000 in
theorem met_X1_number (l : Launch) : pmMet l G pmcl pmft pmkt pmNW pmFW XE pmXN lo H0 yX1_number (ws_ yX1_number cX1_number 4 (some .int)) 0 0 4 P_X1_number := by
  refine pmMet.of (by decide +kernel) (by decide) ?_
  intro p e s m args below meth c R E hfr hlc F X hr hlocks hexc hnm
  refine wp_sim (V := fun b => pmV p l e R s m args below meth c G lo H0 4 pmcl pmft (vy_MQ below (pmQc G pmcl pmft lo H0 E) (pmXC G pmcl pmft pmXN lo H0 E) args s R.cells R.slots (fun q => lo ≤ q)) ((fun b => match b with | _ => 0 : Nat → Nat) b)) ?_ 0
  intro b Y hY
  match b with
  | _ =>
    show pm_le _ (pmV p l e R s m args below meth c G lo H0 4 pmcl pmft (vy_MQ below (pmQc G pmcl pmft lo H0 E) (pmXC G pmcl pmft pmXN lo H0 E) args s R.cells R.slots (fun q => lo ≤ q)) 0)
    exact (sm_aload_n F dX1_number_0 rfl (sm_getR F cls_1 (k := 1) rfl (by decide) rfl q157 (fun _ h => h) dX1_number_1 (sm_iload_n F dX1_number_4 rfl (sm_aald F (by decide) kt_113 rfl dX1_number_5 (sm_iload_n F dX1_number_6 rfl (sm_bipush F dX1_number_7 ⟨by unfold inI; omega, by decide⟩ (sm_iload_n F dX1_number_9 rfl (sm_isub F dX1_number_10 (sm_iconst F dX1_number_11 (by unfold inI; omega) (sm_iadd F dX1_number_12 (sm_imul F dX1_number_13 (sm_iload_n F dX1_number_14 rfl (sm_iadd F dX1_number_15 (sm_sald F kt_102 dX1_number_16 (sm_iret F hr hlocks dX1_number_17)))))))))))))))
set_option maxHeartbeats 4000000 in
theorem met_X1_degree (l : Launch) : pmMet l G pmcl pmft pmkt pmNW pmFW XE pmXN lo H0 yX1_degree (ws_ yX1_degree cX1_degree 2 (some .int)) 0 0 2 P_X1_degree := by
  refine pmMet.of (by decide +kernel) (by decide) ?_
  intro p e s m args below meth c R E hfr hlc F X hr hlocks hexc hnm
  refine wp_sim (V := fun b => pmV p l e R s m args below meth c G lo H0 2 pmcl pmft (vy_MQ below (pmQc G pmcl pmft lo H0 E) (pmXC G pmcl pmft pmXN lo H0 E) args s R.cells R.slots (fun q => lo ≤ q)) ((fun b => match b with | _ => 0 : Nat → Nat) b)) ?_ 0
  intro b Y hY
  match b with
  | _ =>
    show pm_le _ (pmV p l e R s m args below meth c G lo H0 2 pmcl pmft (vy_MQ below (pmQc G pmcl pmft lo H0 E) (pmXC G pmcl pmft pmXN lo H0 E) args s R.cells R.slots (fun q => lo ≤ q)) 0)
    exact (sm_aload_n F dX1_degree_0 rfl (sm_getR F cls_1 (k := 0) rfl (by decide) rfl q155 (fun _ h => h) dX1_degree_1 (sm_iconst F dX1_degree_4 (by unfold inI; omega) (sm_aald F (by decide) kt_112 rfl dX1_degree_5 (sm_iload_n F dX1_degree_6 rfl (sm_bald F kt_101 dX1_degree_7 (sm_aload_n F dX1_degree_8 rfl (sm_getR F cls_1 (k := 0) rfl (by decide) rfl q155 (fun _ h => h) dX1_degree_9 (sm_iconst F dX1_degree_12 (by unfold inI; omega) (sm_aald F (by decide) kt_112 rfl dX1_degree_13 (sm_iload_n F dX1_degree_14 rfl (sm_bald F kt_101 dX1_degree_15 (sm_iadd F dX1_degree_16 (sm_aload_n F dX1_degree_17 rfl (sm_getR F cls_1 (k := 0) rfl (by decide) rfl q155 (fun _ h => h) dX1_degree_18 (sm_iconst F dX1_degree_21 (by unfold inI; omega) (sm_aald F (by decide) kt_112 rfl dX1_degree_22 (sm_iload_n F dX1_degree_23 rfl (sm_bald F kt_101 dX1_degree_24 (sm_iadd F dX1_degree_25 (sm_iret F hr hlocks dX1_degree_26)))))))))))))))))))))
set_option maxHeartbeats 4000000 in
theorem met_X1_times (l : Launch) : pmMet l G pmcl pmft pmkt pmNW pmFW XE pmXN lo H0 yX1_times (ws_ yX1_times cX1_times 3 (some .int)) 1 23 3 P_X1_times := by
  refine pmMet.of (by decide +kernel) (by decide) ?_
  intro p e s m args below meth c R E hfr hlc F X hr hlocks hexc hnm
  refine wp_sim (V := fun b => pmV p l e R s m args below meth c G lo H0 3 pmcl pmft (vy_MQ below (pmQc G pmcl pmft lo H0 E) (pmXC G pmcl pmft pmXN lo H0 E) args s R.cells R.slots (fun q => lo ≤ q)) ((fun b => match b with | _ => 0 : Nat → Nat) b)) ?_ 0
  intro b Y hY
  match b with
  | _ =>
    show pm_le _ (pmV p l e R s m args below meth c G lo H0 3 pmcl pmft (vy_MQ below (pmQc G pmcl pmft lo H0 E) (pmXC G pmcl pmft pmXN lo H0 E) args s R.cells R.slots (fun q => lo ≤ q)) 0)
    exact (sm_aload_n F dX1_times_0 rfl (sm_aload_n F dX1_times_1 rfl (sm_getR F cls_1 (k := 0) rfl (by decide) rfl q155 (fun _ h => h) dX1_times_2 (sm_iconst F dX1_times_5 (by unfold inI; omega) (sm_aald F (by decide) kt_112 rfl dX1_times_6 (sm_iload_n F dX1_times_7 rfl (sm_bald F kt_101 dX1_times_8 (sm_aload_n F dX1_times_9 rfl (sm_getR F cls_1 (k := 0) rfl (by decide) rfl q155 (fun _ h => h) dX1_times_10 (sm_iconst F dX1_times_13 (by unfold inI; omega) (sm_aald F (by decide) kt_112 rfl dX1_times_14 (sm_iload_n F dX1_times_15 rfl (sm_bald F kt_101 dX1_times_16 (sm_iadd F dX1_times_17 (sm_aload_n F dX1_times_18 rfl (sm_getR F cls_1 (k := 0) rfl (by decide) rfl q155 (fun _ h => h) dX1_times_19 (sm_iconst F dX1_times_22 (by unfold inI; omega) (sm_aald F (by decide) kt_112 rfl dX1_times_23 (sm_iload_n F dX1_times_24 rfl (sm_bald F kt_101 dX1_times_25 (sm_aload_n F dX1_times_26 rfl (sm_getR F cls_1 (k := 0) rfl (by decide) rfl q155 (fun _ h => h) dX1_times_27 (sm_iconst F dX1_times_30 (by unfold inI; omega) (sm_aald F (by decide) kt_112 rfl dX1_times_31 (sm_iload_n F dX1_times_32 rfl (sm_bald F kt_101 dX1_times_33 (sm_iadd F dX1_times_34 (sm_aload_n F dX1_times_35 rfl (sm_getR F cls_1 (k := 0) rfl (by decide) rfl q155 (fun _ h => h) dX1_times_36 (sm_iconst F dX1_times_39 (by unfold inI; omega) (sm_aald F (by decide) kt_112 rfl dX1_times_40 (sm_iload_n F dX1_times_41 rfl (sm_bald F kt_101 dX1_times_42 (sm_aload_n F dX1_times_43 rfl (sm_getR F cls_1 (k := 0) rfl (by decide) rfl q155 (fun _ h => h) dX1_times_44 (sm_iconst F dX1_times_47 (by unfold inI; omega) (sm_aald F (by decide) kt_112 rfl dX1_times_48 (sm_iload_n F dX1_times_49 rfl (sm_bald F kt_101 dX1_times_50 (sm_iadd F dX1_times_51 (sm_callV F X (met_X1_number l) cls_1 (fun _ _ => cwV 3 F.1.2.2.2.2 (lw_V q1044 q900 q901 q100 q902) rfl rfl rfl (by decide +kernel) ⟨by rw [hfr]; exact Nat.le_of_ble_eq_true rfl, by rw [hlc]; exact Nat.le_of_ble_eq_true rfl⟩) dX1_times_52 (sm_iret F hr hlocks dX1_times_55) sx_none)))))))))))))))))))))))))))))))))))))))))
set_option maxHeartbeats 4000000 in
theorem met_X1_more (l : Launch) : pmMet l G pmcl pmft pmkt pmNW pmFW XE pmXN lo H0 yX1_more (ws_ yX1_more cX1_more 4 (some .int)) 0 0 4 P_X1_more := by
  refine pmMet.of (by decide +kernel) (by decide) ?_
  intro p e s m args below meth c R E hfr hlc F X hr hlocks hexc hnm
  refine wp_sim (V := fun b => pmV p l e R s m args below meth c G lo H0 4 pmcl pmft (vy_MQ below (pmQc G pmcl pmft lo H0 E) (pmXC G pmcl pmft pmXN lo H0 E) args s R.cells R.slots (fun q => lo ≤ q)) ((fun b => match b with | _ => 0 : Nat → Nat) b)) ?_ 0
  intro b Y hY
  match b with
  | _ =>
    show pm_le _ (pmV p l e R s m args below meth c G lo H0 4 pmcl pmft (vy_MQ below (pmQc G pmcl pmft lo H0 E) (pmXC G pmcl pmft pmXN lo H0 E) args s R.cells R.slots (fun q => lo ≤ q)) 0)
    exact (sm_aload_n F dX1_more_0 rfl (sm_getR F cls_1 (k := 0) rfl (by decide) rfl q155 (fun _ h => h) dX1_more_1 (sm_iload_n F dX1_more_4 rfl (sm_aald F (by decide) kt_112 rfl dX1_more_5 (sm_iload_n F dX1_more_6 rfl (sm_bald F kt_101 dX1_more_7 (sm_aload_n F dX1_more_8 rfl (sm_getR F cls_1 (k := 0) rfl (by decide) rfl q155 (fun _ h => h) dX1_more_9 (sm_iload_n F dX1_more_12 rfl (sm_aald F (by decide) kt_112 rfl dX1_more_13 (sm_iload_n F dX1_more_14 rfl (sm_bald F kt_101 dX1_more_15 (sm_isub F dX1_more_16 (sm_iret F hr hlocks dX1_more_17))))))))))))))
set_option maxHeartbeats 4000000 in
theorem met_X1_code (l : Launch) : pmMet l G pmcl pmft pmkt pmNW pmFW XE pmXN lo H0 yX1_code (ws_ yX1_code cX1_code 2 (some .int)) 0 0 2 P_X1_code := by
  refine pmMet.of (by decide +kernel) (by decide) ?_
  intro p e s m args below meth c R E hfr hlc F X hr hlocks hexc hnm
  refine wp_sim (V := fun b => pmV p l e R s m args below meth c G lo H0 2 pmcl pmft (vy_MQ below (pmQc G pmcl pmft lo H0 E) (pmXC G pmcl pmft pmXN lo H0 E) args s R.cells R.slots (fun q => lo ≤ q)) ((fun b => match b with | _ => 0 : Nat → Nat) b)) ?_ 0
  intro b Y hY
  match b with
  | _ =>
    show pm_le _ (pmV p l e R s m args below meth c G lo H0 2 pmcl pmft (vy_MQ below (pmQc G pmcl pmft lo H0 E) (pmXC G pmcl pmft pmXN lo H0 E) args s R.cells R.slots (fun q => lo ≤ q)) 0)
    exact (sm_aload_n F dX1_code_0 rfl (sm_getR F cls_1 (k := 0) rfl (by decide) rfl q155 (fun _ h => h) dX1_code_1 (sm_iconst F dX1_code_4 (by unfold inI; omega) (sm_aald F (by decide) kt_112 rfl dX1_code_5 (sm_iload_n F dX1_code_6 rfl (sm_bald F kt_101 dX1_code_7 (sm_bipush F dX1_code_8 ⟨by unfold inI; omega, by decide⟩ (sm_aload_n F dX1_code_10 rfl (sm_getR F cls_1 (k := 0) rfl (by decide) rfl q155 (fun _ h => h) dX1_code_11 (sm_iconst F dX1_code_14 (by unfold inI; omega) (sm_aald F (by decide) kt_112 rfl dX1_code_15 (sm_iload_n F dX1_code_16 rfl (sm_bald F kt_101 dX1_code_17 (sm_imul F dX1_code_18 (sm_iadd F dX1_code_19 (sm_sipush F dX1_code_20 ⟨by unfold inI; omega, by decide⟩ (sm_aload_n F dX1_code_23 rfl (sm_getR F cls_1 (k := 0) rfl (by decide) rfl q155 (fun _ h => h) dX1_code_24 (sm_iconst F dX1_code_27 (by unfold inI; omega) (sm_aald F (by decide) kt_112 rfl dX1_code_28 (sm_iload_n F dX1_code_29 rfl (sm_bald F kt_101 dX1_code_30 (sm_imul F dX1_code_31 (sm_iadd F dX1_code_32 (sm_iret F hr hlocks dX1_code_33)))))))))))))))))))))))))
set_option maxHeartbeats 4000000 in
theorem met_X1_divides (l : Launch) : pmMet l G pmcl pmft pmkt pmNW pmFW XE pmXN lo H0 yX1_divides (ws_ yX1_divides cX1_divides 3 (some .boolean)) 0 0 3 P_X1_divides := by
  refine pmMet.of (by decide +kernel) (by decide) ?_
  intro p e s m args below meth c R E hfr hlc F X hr hlocks hexc hnm
  refine wp_sim (V := fun b => pmV p l e R s m args below meth c G lo H0 3 pmcl pmft (vy_MQ below (pmQc G pmcl pmft lo H0 E) (pmXC G pmcl pmft pmXN lo H0 E) args s R.cells R.slots (fun q => lo ≤ q)) ((fun b => match b with | 0 => 0 | 1 => 61 | _ => 62 : Nat → Nat) b)) ?_ 0
  intro b Y hY
  match b with
  | 0 =>
    show pm_le _ (pmV p l e R s m args below meth c G lo H0 3 pmcl pmft (vy_MQ below (pmQc G pmcl pmft lo H0 E) (pmXC G pmcl pmft pmXN lo H0 E) args s R.cells R.slots (fun q => lo ≤ q)) 0)
    exact (sm_aload_n F dX1_divides_0 rfl (sm_getR F cls_1 (k := 0) rfl (by decide) rfl q155 (fun _ h => h) dX1_divides_1 (sm_iconst F dX1_divides_4 (by unfold inI; omega) (sm_aald F (by decide) kt_112 rfl dX1_divides_5 (sm_iload_n F dX1_divides_6 rfl (sm_bald F kt_101 dX1_divides_7 (sm_aload_n F dX1_divides_8 rfl (sm_getR F cls_1 (k := 0) rfl (by decide) rfl q155 (fun _ h => h) dX1_divides_9 (sm_iconst F dX1_divides_12 (by unfold inI; omega) (sm_aald F (by decide) kt_112 rfl dX1_divides_13 (sm_iload_n F dX1_divides_14 rfl (sm_bald F kt_101 dX1_divides_15 (sm_cmpgt F (tgt := 61) dX1_divides_16 (by decide) (sm_kil (hY 1)) (sm_aload_n F dX1_divides_19 rfl (sm_getR F cls_1 (k := 0) rfl (by decide) rfl q155 (fun _ h => h) dX1_divides_20 (sm_iconst F dX1_divides_23 (by unfold inI; omega) (sm_aald F (by decide) kt_112 rfl dX1_divides_24 (sm_iload_n F dX1_divides_25 rfl (sm_bald F kt_101 dX1_divides_26 (sm_aload_n F dX1_divides_27 rfl (sm_getR F cls_1 (k := 0) rfl (by decide) rfl q155 (fun _ h => h) dX1_divides_28 (sm_iconst F dX1_divides_31 (by unfold inI; omega) (sm_aald F (by decide) kt_112 rfl dX1_divides_32 (sm_iload_n F dX1_divides_33 rfl (sm_bald F kt_101 dX1_divides_34 (sm_cmpgt F (tgt := 61) dX1_divides_35 (by decide) (sm_kil (hY 1)) (sm_aload_n F dX1_divides_38 rfl (sm_getR F cls_1 (k := 0) rfl (by decide) rfl q155 (fun _ h => h) dX1_divides_39 (sm_iconst F dX1_divides_42 (by unfold inI; omega) (sm_aald F (by decide) kt_112 rfl dX1_divides_43 (sm_iload_n F dX1_divides_44 rfl (sm_bald F kt_101 dX1_divides_45 (sm_aload_n F dX1_divides_46 rfl (sm_getR F cls_1 (k := 0) rfl (by decide) rfl q155 (fun _ h => h) dX1_divides_47 (sm_iconst F dX1_divides_50 (by unfold inI; omega) (sm_aald F (by decide) kt_112 rfl dX1_divides_51 (sm_iload_n F dX1_divides_52 rfl (sm_bald F kt_101 dX1_divides_53 (sm_cmpgt F (tgt := 61) dX1_divides_54 (by decide) (sm_kil (hY 1)) (sm_iconst F dX1_divides_57 (by unfold inI; omega) (sm_goto F (tgt := 62) dX1_divides_58 (by decide) (sm_kil (hY 2)))))))))))))))))))))))))))))))))))))))))))
  | 1 =>
    show pm_le _ (pmV p l e R s m args below meth c G lo H0 3 pmcl pmft (vy_MQ below (pmQc G pmcl pmft lo H0 E) (pmXC G pmcl pmft pmXN lo H0 E) args s R.cells R.slots (fun q => lo ≤ q)) 61)
    exact (sm_iconst F dX1_divides_61 (by unfold inI; omega) (hY 2))
  | z + 2 =>
    show pm_le _ (pmV p l e R s m args below meth c G lo H0 3 pmcl pmft (vy_MQ below (pmQc G pmcl pmft lo H0 E) (pmXC G pmcl pmft pmXN lo H0 E) args s R.cells R.slots (fun q => lo ≤ q)) 62)
    exact (sm_zret F hr hlocks dX1_divides_62)
set_option maxHeartbeats 4000000 in
theorem met_X1_over (l : Launch) : pmMet l G pmcl pmft pmkt pmNW pmFW XE pmXN lo H0 yX1_over (ws_ yX1_over cX1_over 3 (some .int)) 1 23 3 P_X1_over := by
  refine pmMet.of (by decide +kernel) (by decide) ?_
  intro p e s m args below meth c R E hfr hlc F X hr hlocks hexc hnm
  refine wp_sim (V := fun b => pmV p l e R s m args below meth c G lo H0 3 pmcl pmft (vy_MQ below (pmQc G pmcl pmft lo H0 E) (pmXC G pmcl pmft pmXN lo H0 E) args s R.cells R.slots (fun q => lo ≤ q)) ((fun b => match b with | _ => 0 : Nat → Nat) b)) ?_ 0
  intro b Y hY
  match b with
  | _ =>
    show pm_le _ (pmV p l e R s m args below meth c G lo H0 3 pmcl pmft (vy_MQ below (pmQc G pmcl pmft lo H0 E) (pmXC G pmcl pmft pmXN lo H0 E) args s R.cells R.slots (fun q => lo ≤ q)) 0)
    exact (sm_aload_n F dX1_over_0 rfl (sm_aload_n F dX1_over_1 rfl (sm_getR F cls_1 (k := 0) rfl (by decide) rfl q155 (fun _ h => h) dX1_over_2 (sm_iconst F dX1_over_5 (by unfold inI; omega) (sm_aald F (by decide) kt_112 rfl dX1_over_6 (sm_iload_n F dX1_over_7 rfl (sm_bald F kt_101 dX1_over_8 (sm_aload_n F dX1_over_9 rfl (sm_getR F cls_1 (k := 0) rfl (by decide) rfl q155 (fun _ h => h) dX1_over_10 (sm_iconst F dX1_over_13 (by unfold inI; omega) (sm_aald F (by decide) kt_112 rfl dX1_over_14 (sm_iload_n F dX1_over_15 rfl (sm_bald F kt_101 dX1_over_16 (sm_isub F dX1_over_17 (sm_aload_n F dX1_over_18 rfl (sm_getR F cls_1 (k := 0) rfl (by decide) rfl q155 (fun _ h => h) dX1_over_19 (sm_iconst F dX1_over_22 (by unfold inI; omega) (sm_aald F (by decide) kt_112 rfl dX1_over_23 (sm_iload_n F dX1_over_24 rfl (sm_bald F kt_101 dX1_over_25 (sm_aload_n F dX1_over_26 rfl (sm_getR F cls_1 (k := 0) rfl (by decide) rfl q155 (fun _ h => h) dX1_over_27 (sm_iconst F dX1_over_30 (by unfold inI; omega) (sm_aald F (by decide) kt_112 rfl dX1_over_31 (sm_iload_n F dX1_over_32 rfl (sm_bald F kt_101 dX1_over_33 (sm_isub F dX1_over_34 (sm_aload_n F dX1_over_35 rfl (sm_getR F cls_1 (k := 0) rfl (by decide) rfl q155 (fun _ h => h) dX1_over_36 (sm_iconst F dX1_over_39 (by unfold inI; omega) (sm_aald F (by decide) kt_112 rfl dX1_over_40 (sm_iload_n F dX1_over_41 rfl (sm_bald F kt_101 dX1_over_42 (sm_aload_n F dX1_over_43 rfl (sm_getR F cls_1 (k := 0) rfl (by decide) rfl q155 (fun _ h => h) dX1_over_44 (sm_iconst F dX1_over_47 (by unfold inI; omega) (sm_aald F (by decide) kt_112 rfl dX1_over_48 (sm_iload_n F dX1_over_49 rfl (sm_bald F kt_101 dX1_over_50 (sm_isub F dX1_over_51 (sm_callV F X (met_X1_number l) cls_1 (fun _ _ => cwV 3 F.1.2.2.2.2 (lw_V q1044 q900 q901 q100 q902) rfl rfl rfl (by decide +kernel) ⟨by rw [hfr]; exact Nat.le_of_ble_eq_true rfl, by rw [hlc]; exact Nat.le_of_ble_eq_true rfl⟩) dX1_over_52 (sm_iret F hr hlocks dX1_over_55) sx_none)))))))))))))))))))))))))))))))))))))))))
set_option maxHeartbeats 4000000 in
theorem met_X2_against (l : Launch) : pmMet l G pmcl pmft pmkt pmNW pmFW XE pmXN lo H0 yX2_against (ws_ yX2_against cX2_against 4 (some .int)) 0 0 3 P_X2_against := by
  refine pmMet.of (by decide +kernel) (by decide) ?_
  intro p e s m args below meth c R E hfr hlc F X hr hlocks hexc hnm
  refine wp_sim (V := fun b => pmV p l e R s m args below meth c G lo H0 4 pmcl pmft (vy_MQ below (pmQc G pmcl pmft lo H0 E) (pmXC G pmcl pmft pmXN lo H0 E) args s R.cells R.slots (fun q => lo ≤ q)) ((fun b => match b with | 0 => 0 | 1 => 28 | 2 => 53 | _ => 74 : Nat → Nat) b)) ?_ 0
  intro b Y hY
  match b with
  | 0 =>
    show pm_le _ (pmV p l e R s m args below meth c G lo H0 4 pmcl pmft (vy_MQ below (pmQc G pmcl pmft lo H0 E) (pmXC G pmcl pmft pmXN lo H0 E) args s R.cells R.slots (fun q => lo ≤ q)) 0)
    exact (sm_aload_n F dX2_against_0 rfl (sm_getIN F cls_3 (k := 1) rfl (by decide) rfl (X.1.1 _ nw_q184).2 (fun _ h => h) dX2_against_1 (sm_aload_n F dX2_against_4 rfl (sm_getIN F cls_3 (k := 1) rfl (by decide) rfl (X.1.1 _ nw_q184).2 (fun _ h => h) dX2_against_5 (sm_cmpeq F (tgt := 21) dX2_against_8 (by decide) (sm_aload_n F dX2_against_21 rfl (sm_getIN F cls_3 (k := 1) rfl (by decide) rfl (X.1.1 _ nw_q184).2 (fun _ h => h) dX2_against_22 (sm_iconst F dX2_against_25 (by unfold inI; omega) (sm_isub F dX2_against_26 (sm_istore_n F dX2_against_27 rfl (by decide) (sm_kil (hY 1))))))) (sm_aload_n F dX2_against_11 rfl (sm_getIN F cls_3 (k := 1) rfl (by decide) rfl (X.1.1 _ nw_q184).2 (fun _ h => h) dX2_against_12 (sm_aload_n F dX2_against_15 rfl (sm_getIN F cls_3 (k := 1) rfl (by decide) rfl (X.1.1 _ nw_q184).2 (fun _ h => h) dX2_against_16 (sm_isub F dX2_against_19 (sm_iret F hr hlocks dX2_against_20)))))))))))
  | 1 =>
    show pm_le _ (pmV p l e R s m args below meth c G lo H0 4 pmcl pmft (vy_MQ below (pmQc G pmcl pmft lo H0 E) (pmXC G pmcl pmft pmXN lo H0 E) args s R.cells R.slots (fun q => lo ≤ q)) 28)
    exact (sm_iload_n F dX2_against_28 rfl (sm_iflt F (tgt := 53) dX2_against_29 (by decide) (hY 2) (sm_aload_n F dX2_against_32 rfl (sm_getRN F cls_3 (k := 0) rfl (by decide) rfl (X.1.1 _ nw_q179).2 (fun _ h => h) dX2_against_33 (sm_iload_n F dX2_against_36 rfl (sm_iald F kt_100 dX2_against_37 (sm_aload_n F dX2_against_38 rfl (sm_getRN F cls_3 (k := 0) rfl (by decide) rfl (X.1.1 _ nw_q179).2 (fun _ h => h) dX2_against_39 (sm_iload_n F dX2_against_42 rfl (sm_iald F kt_100 dX2_against_43 (sm_cmpne F (tgt := 53) dX2_against_44 (by decide) (hY 2) (sm_iinc F dX2_against_47 (by decide) (sm_goto F (tgt := 28) dX2_against_50 (by decide) (hY 1))))))))))))))
  | 2 =>
    show pm_le _ (pmV p l e R s m args below meth c G lo H0 4 pmcl pmft (vy_MQ below (pmQc G pmcl pmft lo H0 E) (pmXC G pmcl pmft pmXN lo H0 E) args s R.cells R.slots (fun q => lo ≤ q)) 53)
    exact (sm_iload_n F dX2_against_53 rfl (sm_ifge F (tgt := 61) dX2_against_54 (by decide) (sm_aload_n F dX2_against_61 rfl (sm_getRN F cls_3 (k := 0) rfl (by decide) rfl (X.1.1 _ nw_q179).2 (fun _ h => h) dX2_against_62 (sm_iload_n F dX2_against_65 rfl (sm_iald F kt_100 dX2_against_66 (sm_aload_n F dX2_against_67 rfl (sm_getRN F cls_3 (k := 0) rfl (by decide) rfl (X.1.1 _ nw_q179).2 (fun _ h => h) dX2_against_68 (sm_iload_n F dX2_against_71 rfl (sm_iald F kt_100 dX2_against_72 (sm_isub F dX2_against_73 (sm_kil (hY 3))))))))))) (sm_iconst F dX2_against_57 (by unfold inI; omega) (sm_goto F (tgt := 74) dX2_against_58 (by decide) (sm_kil (hY 3))))))
  | z + 3 =>
    show pm_le _ (pmV p l e R s m args below meth c G lo H0 4 pmcl pmft (vy_MQ below (pmQc G pmcl pmft lo H0 E) (pmXC G pmcl pmft pmXN lo H0 E) args s R.cells R.slots (fun q => lo ≤ q)) 74)
    exact (sm_iret F hr hlocks dX2_against_74)
set_option maxHeartbeats 4000000 in
theorem met_X2_scale (l : Launch) : pmMet l G pmcl pmft pmkt pmNW pmFW XE pmXN lo H0 yX2_scale (ws_ yX2_scale cX2_scale 10 none) 0 0 5 P_X2_scale := by
  refine pmMet.of (by decide +kernel) (by decide) ?_
  intro p e s m args below meth c R E hfr hlc F X hr hlocks hexc hnm
  refine wp_sim (V := fun b => pmV p l e R s m args below meth c G lo H0 10 pmcl pmft (vy_MQ below (pmQc G pmcl pmft lo H0 E) (pmXC G pmcl pmft pmXN lo H0 E) args s R.cells R.slots (fun q => lo ≤ q)) ((fun b => match b with | 0 => 0 | _ => 6 : Nat → Nat) b)) ?_ 0
  intro b Y hY
  match b with
  | 0 =>
    show pm_le _ (pmV p l e R s m args below meth c G lo H0 10 pmcl pmft (vy_MQ below (pmQc G pmcl pmft lo H0 E) (pmXC G pmcl pmft pmXN lo H0 E) args s R.cells R.slots (fun q => lo ≤ q)) 0)
    exact (sm_lconst F dX2_scale_0 ⟨by unfold inL; omega, by decide⟩ (sm_lstore F dX2_scale_1 (by decide) (sm_iconst F dX2_scale_3 (by unfold inI; omega) (sm_istore F dX2_scale_4 (by decide) (sm_kil (hY 1))))))
  | z + 1 =>
    show pm_le _ (pmV p l e R s m args below meth c G lo H0 10 pmcl pmft (vy_MQ below (pmQc G pmcl pmft lo H0 E) (pmXC G pmcl pmft pmXN lo H0 E) args s R.cells R.slots (fun q => lo ≤ q)) 6)
    exact (sm_iload F dX2_scale_6 (sm_aload_n F dX2_scale_8 rfl (sm_getIN F cls_3 (k := 1) rfl (by decide) rfl (X.1.1 _ nw_q184).2 (fun _ h => h) dX2_scale_9 (sm_cmpge F (tgt := 58) dX2_scale_12 (by decide) (sm_aload_n F dX2_scale_58 rfl (sm_aload_n F dX2_scale_59 rfl (sm_getIN F cls_3 (k := 1) rfl (by decide) rfl (X.1.1 _ nw_q184).2 (fun _ h => h) dX2_scale_60 (sm_lload F dX2_scale_63 (sm_l2i F dX2_scale_65 (sm_iast F kt_100 dX2_scale_66 (sm_vret F hr hlocks dX2_scale_67))))))) (sm_aload_n F dX2_scale_15 rfl (sm_getRN F cls_3 (k := 0) rfl (by decide) rfl (X.1.1 _ nw_q179).2 (fun _ h => h) dX2_scale_16 (sm_iload F dX2_scale_19 (sm_iald F kt_100 dX2_scale_21 (sm_i2l F dX2_scale_22 (sm_lload_n F dX2_scale_23 rfl (sm_lmul F dX2_scale_24 (sm_lload F dX2_scale_25 (sm_ladd F dX2_scale_27 (sm_lstore F dX2_scale_28 (by decide) (sm_lload F dX2_scale_30 (sm_ldc2 F dX2_scale_32 (by unfold inL; omega) q940 (sm_ldiv F dX2_scale_35 (sm_lstore F dX2_scale_36 (by decide) (sm_aload_n F dX2_scale_38 rfl (sm_iload F dX2_scale_39 (sm_lload F dX2_scale_41 (sm_lload F dX2_scale_43 (sm_ldc2 F dX2_scale_45 (by unfold inL; omega) q940 (sm_lmul F dX2_scale_48 (sm_lsub F dX2_scale_49 (sm_l2i F dX2_scale_50 (sm_iast F kt_100 dX2_scale_51 (sm_iinc F dX2_scale_52 (by decide) (sm_goto F (tgt := 6) dX2_scale_55 (by decide) (sm_kil (hY 1)))))))))))))))))))))))))))))))
set_option maxHeartbeats 4000000 in
theorem met_X2_digit (l : Launch) : pmMet l G pmcl pmft pmkt pmNW pmFW XE pmXN lo H0 yX2_digit (ws_ yX2_digit cX2_digit 16 (some .int)) 0 0 3 P_X2_digit := by
  refine pmMet.of (by decide +kernel) (by decide) ?_
  intro p e s m args below meth c R E hfr hlc F X hr hlocks hexc hnm
  refine wp_sim (V := fun b => pmV p l e R s m args below meth c G lo H0 16 pmcl pmft (vy_MQ below (pmQc G pmcl pmft lo H0 E) (pmXC G pmcl pmft pmXN lo H0 E) args s R.cells R.slots (fun q => lo ≤ q)) ((fun b => match b with | 0 => 0 | 1 => 55 | 2 => 112 | 3 => 135 | 4 => 141 | 5 => 216 | 6 => 237 | 7 => 295 | _ => 335 : Nat → Nat) b)) ?_ 0
  intro b Y hY
  match b with
  | 0 =>
    show pm_le _ (pmV p l e R s m args below meth c G lo H0 16 pmcl pmft (vy_MQ below (pmQc G pmcl pmft lo H0 E) (pmXC G pmcl pmft pmXN lo H0 E) args s R.cells R.slots (fun q => lo ≤ q)) 0)
    exact (sm_aload_n F dX2_digit_0 rfl (sm_getR F cls_2 (k := 0) rfl (by decide) rfl q204 (fun _ h => h) dX2_digit_1 (sm_iload_n F dX2_digit_4 rfl (sm_iload_n F dX2_digit_5 rfl (sm_iadd F dX2_digit_6 (sm_iald F kt_100 dX2_digit_7 (sm_i2l F dX2_digit_8 (sm_ldc2 F dX2_digit_9 (by unfold inL; omega) q940 (sm_lmul F dX2_digit_12 (sm_aload_n F dX2_digit_13 rfl (sm_getR F cls_2 (k := 0) rfl (by decide) rfl q204 (fun _ h => h) dX2_digit_14 (sm_iload_n F dX2_digit_17 rfl (sm_iload_n F dX2_digit_18 rfl (sm_iadd F dX2_digit_19 (sm_iconst F dX2_digit_20 (by unfold inI; omega) (sm_isub F dX2_digit_21 (sm_iald F kt_100 dX2_digit_22 (sm_i2l F dX2_digit_23 (sm_ladd F dX2_digit_24 (sm_lstore_n F dX2_digit_25 rfl (by decide) (sm_lload_n F dX2_digit_26 rfl (sm_aload_n F dX2_digit_27 rfl (sm_getR F cls_2 (k := 1) rfl (by decide) rfl q205 (fun _ h => h) dX2_digit_28 (sm_iload_n F dX2_digit_31 rfl (sm_iconst F dX2_digit_32 (by unfold inI; omega) (sm_isub F dX2_digit_33 (sm_iald F kt_100 dX2_digit_34 (sm_i2l F dX2_digit_35 (sm_ldiv F dX2_digit_36 (sm_lstore F dX2_digit_37 (by decide) (sm_lload_n F dX2_digit_39 rfl (sm_lload F dX2_digit_40 (sm_aload_n F dX2_digit_42 rfl (sm_getR F cls_2 (k := 1) rfl (by decide) rfl q205 (fun _ h => h) dX2_digit_43 (sm_iload_n F dX2_digit_46 rfl (sm_iconst F dX2_digit_47 (by unfold inI; omega) (sm_isub F dX2_digit_48 (sm_iald F kt_100 dX2_digit_49 (sm_i2l F dX2_digit_50 (sm_lmul F dX2_digit_51 (sm_lsub F dX2_digit_52 (sm_lstore F dX2_digit_53 (by decide) (sm_kil (hY 1))))))))))))))))))))))))))))))))))))))))))))
  | 1 =>
    show pm_le _ (pmV p l e R s m args below meth c G lo H0 16 pmcl pmft (vy_MQ below (pmQc G pmcl pmft lo H0 E) (pmXC G pmcl pmft pmXN lo H0 E) args s R.cells R.slots (fun q => lo ≤ q)) 55)
    exact (sm_lload F dX2_digit_55 (sm_ldc2 F dX2_digit_57 (by unfold inL; omega) q940 (sm_lcmp F dX2_digit_60 (sm_ifge F (tgt := 135) dX2_digit_61 (by decide) (sm_kil (hY 3)) (sm_lload F dX2_digit_64 (sm_ldc2 F dX2_digit_66 (by unfold inL; omega) q940 (sm_lcmp F dX2_digit_69 (sm_ifge F (tgt := 112) dX2_digit_70 (by decide) (hY 2) (sm_iload_n F dX2_digit_73 rfl (sm_iconst F dX2_digit_74 (by unfold inI; omega) (sm_cmple F (tgt := 135) dX2_digit_75 (by decide) (sm_kil (hY 3)) (sm_lload F dX2_digit_78 (sm_aload_n F dX2_digit_80 rfl (sm_getR F cls_2 (k := 1) rfl (by decide) rfl q205 (fun _ h => h) dX2_digit_81 (sm_iload_n F dX2_digit_84 rfl (sm_iconst F dX2_digit_85 (by unfold inI; omega) (sm_isub F dX2_digit_86 (sm_iald F kt_100 dX2_digit_87 (sm_i2l F dX2_digit_88 (sm_lmul F dX2_digit_89 (sm_lload F dX2_digit_90 (sm_ldc2 F dX2_digit_92 (by unfold inL; omega) q940 (sm_lmul F dX2_digit_95 (sm_aload_n F dX2_digit_96 rfl (sm_getR F cls_2 (k := 0) rfl (by decide) rfl q204 (fun _ h => h) dX2_digit_97 (sm_iload_n F dX2_digit_100 rfl (sm_iload_n F dX2_digit_101 rfl (sm_iadd F dX2_digit_102 (sm_iconst F dX2_digit_103 (by unfold inI; omega) (sm_isub F dX2_digit_104 (sm_iald F kt_100 dX2_digit_105 (sm_i2l F dX2_digit_106 (sm_ladd F dX2_digit_107 (sm_lcmp F dX2_digit_108 (sm_ifle F (tgt := 135) dX2_digit_109 (by decide) (sm_kil (hY 3)) (hY 2))))))))))))))))))))))))))))))))))))
  | 2 =>
    show pm_le _ (pmV p l e R s m args below meth c G lo H0 16 pmcl pmft (vy_MQ below (pmQc G pmcl pmft lo H0 E) (pmXC G pmcl pmft pmXN lo H0 E) args s R.cells R.slots (fun q => lo ≤ q)) 112)
    exact (sm_lload F dX2_digit_112 (sm_lconst F dX2_digit_114 ⟨by unfold inL; omega, by decide⟩ (sm_lsub F dX2_digit_115 (sm_lstore F dX2_digit_116 (by decide) (sm_lload F dX2_digit_118 (sm_aload_n F dX2_digit_120 rfl (sm_getR F cls_2 (k := 1) rfl (by decide) rfl q205 (fun _ h => h) dX2_digit_121 (sm_iload_n F dX2_digit_124 rfl (sm_iconst F dX2_digit_125 (by unfold inI; omega) (sm_isub F dX2_digit_126 (sm_iald F kt_100 dX2_digit_127 (sm_i2l F dX2_digit_128 (sm_ladd F dX2_digit_129 (sm_lstore F dX2_digit_130 (by decide) (sm_goto F (tgt := 55) dX2_digit_132 (by decide) (sm_kil (hY 1)))))))))))))))))
  | 3 =>
    show pm_le _ (pmV p l e R s m args below meth c G lo H0 16 pmcl pmft (vy_MQ below (pmQc G pmcl pmft lo H0 E) (pmXC G pmcl pmft pmXN lo H0 E) args s R.cells R.slots (fun q => lo ≤ q)) 135)
    exact (sm_lconst F dX2_digit_135 ⟨by unfold inL; omega, by decide⟩ (sm_lstore F dX2_digit_136 (by decide) (sm_iconst F dX2_digit_138 (by unfold inI; omega) (sm_istore F dX2_digit_139 (by decide) (hY 4)))))
  | 4 =>
    show pm_le _ (pmV p l e R s m args below meth c G lo H0 16 pmcl pmft (vy_MQ below (pmQc G pmcl pmft lo H0 E) (pmXC G pmcl pmft pmXN lo H0 E) args s R.cells R.slots (fun q => lo ≤ q)) 141)
    exact (sm_iload F dX2_digit_141 (sm_iload_n F dX2_digit_143 rfl (sm_cmpge F (tgt := 255) dX2_digit_144 (by decide) (sm_aload_n F dX2_digit_255 rfl (sm_getR F cls_2 (k := 0) rfl (by decide) rfl q204 (fun _ h => h) dX2_digit_256 (sm_iload_n F dX2_digit_259 rfl (sm_iload_n F dX2_digit_260 rfl (sm_iadd F dX2_digit_261 (sm_iald F kt_100 dX2_digit_262 (sm_i2l F dX2_digit_263 (sm_lload F dX2_digit_264 (sm_lsub F dX2_digit_266 (sm_lstore F dX2_digit_267 (by decide) (sm_aload_n F dX2_digit_269 rfl (sm_getR F cls_2 (k := 0) rfl (by decide) rfl q204 (fun _ h => h) dX2_digit_270 (sm_iload_n F dX2_digit_273 rfl (sm_iload_n F dX2_digit_274 rfl (sm_iadd F dX2_digit_275 (sm_iconst F dX2_digit_276 (by unfold inI; omega) (sm_iast F kt_100 dX2_digit_277 (sm_lload F dX2_digit_278 (sm_lconst F dX2_digit_280 ⟨by unfold inL; omega, by decide⟩ (sm_lcmp F dX2_digit_281 (sm_iflt F (tgt := 289) dX2_digit_282 (by decide) (sm_iconst F dX2_digit_289 (by unfold inI; omega) (sm_istore F dX2_digit_290 (by decide) (sm_iconst F dX2_digit_292 (by unfold inI; omega) (sm_istore F dX2_digit_293 (by decide) (sm_kil (hY 7)))))) (sm_lload F dX2_digit_285 (sm_l2i F dX2_digit_287 (sm_iret F hr hlocks dX2_digit_288)))))))))))))))))))))))) (sm_aload_n F dX2_digit_147 rfl (sm_getR F cls_2 (k := 0) rfl (by decide) rfl q204 (fun _ h => h) dX2_digit_148 (sm_iload_n F dX2_digit_151 rfl (sm_iload F dX2_digit_152 (sm_iadd F dX2_digit_154 (sm_iald F kt_100 dX2_digit_155 (sm_i2l F dX2_digit_156 (sm_lload F dX2_digit_157 (sm_lsub F dX2_digit_159 (sm_lload F dX2_digit_160 (sm_aload_n F dX2_digit_162 rfl (sm_getR F cls_2 (k := 1) rfl (by decide) rfl q205 (fun _ h => h) dX2_digit_163 (sm_iload F dX2_digit_166 (sm_iald F kt_100 dX2_digit_168 (sm_i2l F dX2_digit_169 (sm_lmul F dX2_digit_170 (sm_ldc2 F dX2_digit_171 (by unfold inL; omega) q940 (sm_lrem F dX2_digit_174 (sm_lsub F dX2_digit_175 (sm_lstore F dX2_digit_176 (by decide) (sm_lload F dX2_digit_178 (sm_aload_n F dX2_digit_180 rfl (sm_getR F cls_2 (k := 1) rfl (by decide) rfl q205 (fun _ h => h) dX2_digit_181 (sm_iload F dX2_digit_184 (sm_iald F kt_100 dX2_digit_186 (sm_i2l F dX2_digit_187 (sm_lmul F dX2_digit_188 (sm_ldc2 F dX2_digit_189 (by unfold inL; omega) q940 (sm_ldiv F dX2_digit_192 (sm_lstore F dX2_digit_193 (by decide) (sm_lload F dX2_digit_195 (sm_lconst F dX2_digit_197 ⟨by unfold inL; omega, by decide⟩ (sm_lcmp F dX2_digit_198 (sm_ifge F (tgt := 216) dX2_digit_199 (by decide) (sm_kil (hY 5)) (sm_lload F dX2_digit_202 (sm_ldc2 F dX2_digit_204 (by unfold inL; omega) q940 (sm_ladd F dX2_digit_207 (sm_lstore F dX2_digit_208 (by decide) (sm_lload F dX2_digit_210 (sm_lconst F dX2_digit_212 ⟨by unfold inL; omega, by decide⟩ (sm_ladd F dX2_digit_213 (sm_lstore F dX2_digit_214 (by decide) (sm_kil (hY 5)))))))))))))))))))))))))))))))))))))))))))))))
  | 5 =>
    show pm_le _ (pmV p l e R s m args below meth c G lo H0 16 pmcl pmft (vy_MQ below (pmQc G pmcl pmft lo H0 E) (pmXC G pmcl pmft pmXN lo H0 E) args s R.cells R.slots (fun q => lo ≤ q)) 216)
    exact (sm_lload F dX2_digit_216 (sm_lconst F dX2_digit_218 ⟨by unfold inL; omega, by decide⟩ (sm_lcmp F dX2_digit_219 (sm_ifge F (tgt := 237) dX2_digit_220 (by decide) (hY 6) (sm_lload F dX2_digit_223 (sm_ldc2 F dX2_digit_225 (by unfold inL; omega) q940 (sm_ladd F dX2_digit_228 (sm_lstore F dX2_digit_229 (by decide) (sm_lload F dX2_digit_231 (sm_lconst F dX2_digit_233 ⟨by unfold inL; omega, by decide⟩ (sm_ladd F dX2_digit_234 (sm_lstore F dX2_digit_235 (by decide) (sm_kil (hY 6))))))))))))))
  | 6 =>
    show pm_le _ (pmV p l e R s m args below meth c G lo H0 16 pmcl pmft (vy_MQ below (pmQc G pmcl pmft lo H0 E) (pmXC G pmcl pmft pmXN lo H0 E) args s R.cells R.slots (fun q => lo ≤ q)) 237)
    exact (sm_aload_n F dX2_digit_237 rfl (sm_getR F cls_2 (k := 0) rfl (by decide) rfl q204 (fun _ h => h) dX2_digit_238 (sm_iload_n F dX2_digit_241 rfl (sm_iload F dX2_digit_242 (sm_iadd F dX2_digit_244 (sm_lload F dX2_digit_245 (sm_l2i F dX2_digit_247 (sm_iast F kt_100 dX2_digit_248 (sm_iinc F dX2_digit_249 (by decide) (sm_goto F (tgt := 141) dX2_digit_252 (by decide) (sm_kil (hY 4))))))))))))
  | 7 =>
    show pm_le _ (pmV p l e R s m args below meth c G lo H0 16 pmcl pmft (vy_MQ below (pmQc G pmcl pmft lo H0 E) (pmXC G pmcl pmft pmXN lo H0 E) args s R.cells R.slots (fun q => lo ≤ q)) 295)
    exact (sm_iload F dX2_digit_295 (sm_iload_n F dX2_digit_297 rfl (sm_cmpge F (tgt := 360) dX2_digit_298 (by decide) (sm_lload F dX2_digit_360 (sm_l2i F dX2_digit_362 (sm_iconst F dX2_digit_363 (by unfold inI; omega) (sm_isub F dX2_digit_364 (sm_iret F hr hlocks dX2_digit_365))))) (sm_aload_n F dX2_digit_301 rfl (sm_getR F cls_2 (k := 0) rfl (by decide) rfl q204 (fun _ h => h) dX2_digit_302 (sm_iload_n F dX2_digit_305 rfl (sm_iload F dX2_digit_306 (sm_iadd F dX2_digit_308 (sm_iald F kt_100 dX2_digit_309 (sm_aload_n F dX2_digit_310 rfl (sm_getR F cls_2 (k := 1) rfl (by decide) rfl q205 (fun _ h => h) dX2_digit_311 (sm_iload F dX2_digit_314 (sm_iald F kt_100 dX2_digit_316 (sm_iadd F dX2_digit_317 (sm_iload F dX2_digit_318 (sm_iadd F dX2_digit_320 (sm_istore F dX2_digit_321 (by decide) (sm_iload F dX2_digit_323 (sm_ldc F dX2_digit_325 (by unfold inI; omega) q949 (sm_cmplt F (tgt := 334) dX2_digit_327 (by decide) (sm_iconst F dX2_digit_334 (by unfold inI; omega) (sm_kil (hY 8))) (sm_iconst F dX2_digit_330 (by unfold inI; omega) (sm_goto F (tgt := 335) dX2_digit_331 (by decide) (sm_kil (hY 8))))))))))))))))))))))))
  | z + 8 =>
    show pm_le _ (pmV p l e R s m args below meth c G lo H0 16 pmcl pmft (vy_MQ below (pmQc G pmcl pmft lo H0 E) (pmXC G pmcl pmft pmXN lo H0 E) args s R.cells R.slots (fun q => lo ≤ q)) 335)
    exact (sm_istore F dX2_digit_335 (by decide) (sm_aload_n F dX2_digit_337 rfl (sm_getR F cls_2 (k := 0) rfl (by decide) rfl q204 (fun _ h => h) dX2_digit_338 (sm_iload_n F dX2_digit_341 rfl (sm_iload F dX2_digit_342 (sm_iadd F dX2_digit_344 (sm_iload F dX2_digit_345 (sm_ldc F dX2_digit_347 (by unfold inI; omega) q949 (sm_iload F dX2_digit_349 (sm_imul F dX2_digit_351 (sm_isub F dX2_digit_352 (sm_iast F kt_100 dX2_digit_353 (sm_iinc F dX2_digit_354 (by decide) (sm_goto F (tgt := 295) dX2_digit_357 (by decide) (sm_kil (hY 7))))))))))))))))
set_option maxHeartbeats 4000000 in
theorem met_X3_init (l : Launch) : pmMet l G pmcl pmft pmkt pmNW pmFW XE pmXN lo H0 yX3_init (ws_ yX3_init cX3_init 2 none) 1 20 2 P_X3_init := by
  refine pmMet.of (by decide +kernel) (by decide) ?_
  intro p e s m args below meth c R E hfr hlc F X hr hlocks hexc hnm
  refine wp_sim (V := fun b => pmV p l e R s m args below meth c G lo H0 2 pmcl pmft (vy_MQ below (pmQc G pmcl pmft lo H0 E) (pmXC G pmcl pmft pmXN lo H0 E) args s R.cells R.slots (fun q => lo ≤ q)) ((fun b => match b with | _ => 0 : Nat → Nat) b)) ?_ 0
  intro b Y hY
  match b with
  | _ =>
    show pm_le _ (pmV p l e R s m args below meth c G lo H0 2 pmcl pmft (vy_MQ below (pmQc G pmcl pmft lo H0 E) (pmXC G pmcl pmft pmXN lo H0 E) args s R.cells R.slots (fun q => lo ≤ q)) 0)
    exact (sm_aload_n F dX3_init_0 rfl (sm_objinit F q177 q141 q142 (by rw [hfr]; exact Nat.le_of_ble_eq_true rfl) (by rw [hlc]; exact Nat.le_of_ble_eq_true rfl) dX3_init_1 (sm_aload_n F dX3_init_4 rfl (sm_iload_n F dX3_init_5 rfl (sm_newa (atype := .int) (ty := .int) F rfl (Or.inl ⟨by decide, rfl⟩) (by decide) (by decide) (fun C h => by cases h) kt_100 q163 dX3_init_6 (sm_putRF F cls_3 (k := 0) rfl (by decide) rfl (Or.inr ⟨_, rfl⟩) rfl hnm rfl q178 (fun _ h => h) dX3_init_8 (sm_vret F hr hlocks dX3_init_11)))))))
set_option maxHeartbeats 4000000 in
theorem met_X3_set (l : Launch) : pmMet l G pmcl pmft pmkt pmNW pmFW XE pmXN lo H0 yX3_set (ws_ yX3_set cX3_set 5 none) 0 0 3 P_X3_set := by
  refine pmMet.of (by decide +kernel) (by decide) ?_
  intro p e s m args below meth c R E hfr hlc F X hr hlocks hexc hnm
  refine wp_sim (V := fun b => pmV p l e R s m args below meth c G lo H0 5 pmcl pmft (vy_MQ below (pmQc G pmcl pmft lo H0 E) (pmXC G pmcl pmft pmXN lo H0 E) args s R.cells R.slots (fun q => lo ≤ q)) ((fun b => match b with | 0 => 0 | 1 => 12 | 2 => 35 | _ => 43 : Nat → Nat) b)) ?_ 0
  intro b Y hY
  match b with
  | 0 =>
    show pm_le _ (pmV p l e R s m args below meth c G lo H0 5 pmcl pmft (vy_MQ below (pmQc G pmcl pmft lo H0 E) (pmXC G pmcl pmft pmXN lo H0 E) args s R.cells R.slots (fun q => lo ≤ q)) 0)
    exact (sm_lload_n F dX3_set_0 rfl (sm_lconst F dX3_set_1 ⟨by unfold inL; omega, by decide⟩ (sm_lcmp F dX3_set_2 (sm_ifge F (tgt := 11) dX3_set_3 (by decide) (sm_lload_n F dX3_set_11 rfl (sm_kil (hY 1))) (sm_lload_n F dX3_set_6 rfl (sm_lneg F dX3_set_7 (sm_goto F (tgt := 12) dX3_set_8 (by decide) (sm_kil (hY 1)))))))))
  | 1 =>
    show pm_le _ (pmV p l e R s m args below meth c G lo H0 5 pmcl pmft (vy_MQ below (pmQc G pmcl pmft lo H0 E) (pmXC G pmcl pmft pmXN lo H0 E) args s R.cells R.slots (fun q => lo ≤ q)) 12)
    exact (sm_lstore_n F dX3_set_12 rfl (by decide) (sm_aload_n F dX3_set_13 rfl (sm_lload_n F dX3_set_14 rfl (sm_lconst F dX3_set_15 ⟨by unfold inL; omega, by decide⟩ (sm_lcmp F dX3_set_16 (sm_ifge F (tgt := 24) dX3_set_17 (by decide) (sm_lload_n F dX3_set_24 rfl (sm_lconst F dX3_set_25 ⟨by unfold inL; omega, by decide⟩ (sm_lcmp F dX3_set_26 (sm_ifle F (tgt := 34) dX3_set_27 (by decide) (sm_iconst F dX3_set_34 (by unfold inI; omega) (sm_kil (hY 2))) (sm_iconst F dX3_set_30 (by unfold inI; omega) (sm_goto F (tgt := 35) dX3_set_31 (by decide) (sm_kil (hY 2)))))))) (sm_iconst F dX3_set_20 (by unfold inI; omega) (sm_goto F (tgt := 35) dX3_set_21 (by decide) (sm_kil (hY 2))))))))))
  | 2 =>
    show pm_le _ (pmV p l e R s m args below meth c G lo H0 5 pmcl pmft (vy_MQ below (pmQc G pmcl pmft lo H0 E) (pmXC G pmcl pmft pmXN lo H0 E) args s R.cells R.slots (fun q => lo ≤ q)) 35)
    exact (sm_putI F cls_3 (k := 2) rfl (by decide) rfl rfl rfl q190 (fun _ h => h) dX3_set_35 (sm_aload_n F dX3_set_38 rfl (sm_iconst F dX3_set_39 (by unfold inI; omega) (sm_putI F cls_3 (k := 1) rfl (by decide) rfl rfl rfl q185 (fun _ h => h) dX3_set_40 (hY 3)))))
  | z + 3 =>
    show pm_le _ (pmV p l e R s m args below meth c G lo H0 5 pmcl pmft (vy_MQ below (pmQc G pmcl pmft lo H0 E) (pmXC G pmcl pmft pmXN lo H0 E) args s R.cells R.slots (fun q => lo ≤ q)) 43)
    exact (sm_lload_n F dX3_set_43 rfl (sm_lconst F dX3_set_44 ⟨by unfold inL; omega, by decide⟩ (sm_lcmp F dX3_set_45 (sm_ifle F (tgt := 83) dX3_set_46 (by decide) (sm_vret F hr hlocks dX3_set_83) (sm_aload_n F dX3_set_49 rfl (sm_getR F cls_3 (k := 0) rfl (by decide) rfl q178 (fun _ h => h) dX3_set_50 (sm_aload_n F dX3_set_53 rfl (sm_getI F cls_3 (k := 1) rfl (by decide) rfl q185 (fun _ h => h) dX3_set_54 (sm_lload_n F dX3_set_57 rfl (sm_ldc2 F dX3_set_58 (by unfold inL; omega) q257 (sm_lrem F dX3_set_61 (sm_l2i F dX3_set_62 (sm_iast F kt_100 dX3_set_63 (sm_lload_n F dX3_set_64 rfl (sm_ldc2 F dX3_set_65 (by unfold inL; omega) q257 (sm_ldiv F dX3_set_68 (sm_lstore_n F dX3_set_69 rfl (by decide) (sm_aload_n F dX3_set_70 rfl (sm_dup F dX3_set_71 (sm_getI F cls_3 (k := 1) rfl (by decide) rfl q185 (fun _ h => h) dX3_set_72 (sm_iconst F dX3_set_75 (by unfold inI; omega) (sm_iadd F dX3_set_76 (sm_putI F cls_3 (k := 1) rfl (by decide) rfl rfl rfl q185 (fun _ h => h) dX3_set_77 (sm_goto F (tgt := 43) dX3_set_80 (by decide) (sm_kil (hY 3))))))))))))))))))))))))))
set_option maxHeartbeats 4000000 in
theorem met_X3_be (l : Launch) : pmMet l G pmcl pmft pmkt pmNW pmFW XE pmXN lo H0 yX3_be (ws_ yX3_be cX3_be 3 none) 0 0 2 P_X3_be := by
  refine pmMet.of (by decide +kernel) (by decide) ?_
  intro p e s m args below meth c R E hfr hlc F X hr hlocks hexc hnm
  refine wp_sim (V := fun b => pmV p l e R s m args below meth c G lo H0 3 pmcl pmft (vy_MQ below (pmQc G pmcl pmft lo H0 E) (pmXC G pmcl pmft pmXN lo H0 E) args s R.cells R.slots (fun q => lo ≤ q)) ((fun b => match b with | 0 => 0 | _ => 2 : Nat → Nat) b)) ?_ 0
  intro b Y hY
  match b with
  | 0 =>
    show pm_le _ (pmV p l e R s m args below meth c G lo H0 3 pmcl pmft (vy_MQ below (pmQc G pmcl pmft lo H0 E) (pmXC G pmcl pmft pmXN lo H0 E) args s R.cells R.slots (fun q => lo ≤ q)) 0)
    exact (sm_iconst F dX3_be_0 (by unfold inI; omega) (sm_istore_n F dX3_be_1 rfl (by decide) (hY 1)))
  | z + 1 =>
    show pm_le _ (pmV p l e R s m args below meth c G lo H0 3 pmcl pmft (vy_MQ below (pmQc G pmcl pmft lo H0 E) (pmXC G pmcl pmft pmXN lo H0 E) args s R.cells R.slots (fun q => lo ≤ q)) 2)
    exact (sm_iload_n F dX3_be_2 rfl (sm_aload_n F dX3_be_3 rfl (sm_getI F cls_3 (k := 1) rfl (by decide) rfl q185 (fun _ h => h) dX3_be_4 (sm_cmpge F (tgt := 28) dX3_be_7 (by decide) (sm_aload_n F dX3_be_28 rfl (sm_aload_n F dX3_be_29 rfl (sm_getI F cls_3 (k := 1) rfl (by decide) rfl q185 (fun _ h => h) dX3_be_30 (sm_putI F cls_3 (k := 1) rfl (by decide) rfl rfl rfl q185 (fun _ h => h) dX3_be_33 (sm_aload_n F dX3_be_36 rfl (sm_aload_n F dX3_be_37 rfl (sm_getI F cls_3 (k := 2) rfl (by decide) rfl q190 (fun _ h => h) dX3_be_38 (sm_putI F cls_3 (k := 2) rfl (by decide) rfl rfl rfl q190 (fun _ h => h) dX3_be_41 (sm_vret F hr hlocks dX3_be_44))))))))) (sm_aload_n F dX3_be_10 rfl (sm_getR F cls_3 (k := 0) rfl (by decide) rfl q178 (fun _ h => h) dX3_be_11 (sm_iload_n F dX3_be_14 rfl (sm_aload_n F dX3_be_15 rfl (sm_getR F cls_3 (k := 0) rfl (by decide) rfl q178 (fun _ h => h) dX3_be_16 (sm_iload_n F dX3_be_19 rfl (sm_iald F kt_100 dX3_be_20 (sm_iast F kt_100 dX3_be_21 (sm_iinc F dX3_be_22 (by decide) (sm_goto F (tgt := 2) dX3_be_25 (by decide) (hY 1)))))))))))))))
set_option maxHeartbeats 4000000 in
theorem met_X3_trim (l : Launch) : pmMet l G pmcl pmft pmkt pmNW pmFW XE pmXN lo H0 yX3_trim (ws_ yX3_trim cX3_trim 1 none) 0 0 1 P_X3_trim := by
  refine pmMet.of (by decide +kernel) (by decide) ?_
  intro p e s m args below meth c R E hfr hlc F X hr hlocks hexc hnm
  refine wp_sim (V := fun b => pmV p l e R s m args below meth c G lo H0 1 pmcl pmft (vy_MQ below (pmQc G pmcl pmft lo H0 E) (pmXC G pmcl pmft pmXN lo H0 E) args s R.cells R.slots (fun q => lo ≤ q)) ((fun b => match b with | 0 => 0 | 1 => 34 | _ => 46 : Nat → Nat) b)) ?_ 0
  intro b Y hY
  match b with
  | 0 =>
    show pm_le _ (pmV p l e R s m args below meth c G lo H0 1 pmcl pmft (vy_MQ below (pmQc G pmcl pmft lo H0 E) (pmXC G pmcl pmft pmXN lo H0 E) args s R.cells R.slots (fun q => lo ≤ q)) 0)
    exact (sm_aload_n F dX3_trim_0 rfl (sm_getI F cls_3 (k := 1) rfl (by decide) rfl q185 (fun _ h => h) dX3_trim_1 (sm_ifle F (tgt := 34) dX3_trim_4 (by decide) (hY 1) (sm_aload_n F dX3_trim_7 rfl (sm_getR F cls_3 (k := 0) rfl (by decide) rfl q178 (fun _ h => h) dX3_trim_8 (sm_aload_n F dX3_trim_11 rfl (sm_getI F cls_3 (k := 1) rfl (by decide) rfl q185 (fun _ h => h) dX3_trim_12 (sm_iconst F dX3_trim_15 (by unfold inI; omega) (sm_isub F dX3_trim_16 (sm_iald F kt_100 dX3_trim_17 (sm_ifne F (tgt := 34) dX3_trim_18 (by decide) (hY 1) (sm_aload_n F dX3_trim_21 rfl (sm_dup F dX3_trim_22 (sm_getI F cls_3 (k := 1) rfl (by decide) rfl q185 (fun _ h => h) dX3_trim_23 (sm_iconst F dX3_trim_26 (by unfold inI; omega) (sm_isub F dX3_trim_27 (sm_putI F cls_3 (k := 1) rfl (by decide) rfl rfl rfl q185 (fun _ h => h) dX3_trim_28 (sm_goto F (tgt := 0) dX3_trim_31 (by decide) (hY 0)))))))))))))))))))
  | 1 =>
    show pm_le _ (pmV p l e R s m args below meth c G lo H0 1 pmcl pmft (vy_MQ below (pmQc G pmcl pmft lo H0 E) (pmXC G pmcl pmft pmXN lo H0 E) args s R.cells R.slots (fun q => lo ≤ q)) 34)
    exact (sm_aload_n F dX3_trim_34 rfl (sm_getI F cls_3 (k := 1) rfl (by decide) rfl q185 (fun _ h => h) dX3_trim_35 (sm_ifne F (tgt := 46) dX3_trim_38 (by decide) (sm_kil (hY 2)) (sm_aload_n F dX3_trim_41 rfl (sm_iconst F dX3_trim_42 (by unfold inI; omega) (sm_putI F cls_3 (k := 2) rfl (by decide) rfl rfl rfl q190 (fun _ h => h) dX3_trim_43 (sm_kil (hY 2))))))))
  | z + 2 =>
    show pm_le _ (pmV p l e R s m args below meth c G lo H0 1 pmcl pmft (vy_MQ below (pmQc G pmcl pmft lo H0 E) (pmXC G pmcl pmft pmXN lo H0 E) args s R.cells R.slots (fun q => lo ≤ q)) 46)
    exact (sm_vret F hr hlocks dX3_trim_46)
set_option maxHeartbeats 4000000 in
theorem met_X3_isOne (l : Launch) : pmMet l G pmcl pmft pmkt pmNW pmFW XE pmXN lo H0 yX3_isOne (ws_ yX3_isOne cX3_isOne 1 (some .boolean)) 0 0 1 P_X3_isOne := by
  refine pmMet.of (by decide +kernel) (by decide) ?_
  intro p e s m args below meth c R E hfr hlc F X hr hlocks hexc hnm
  refine wp_sim (V := fun b => pmV p l e R s m args below meth c G lo H0 1 pmcl pmft (vy_MQ below (pmQc G pmcl pmft lo H0 E) (pmXC G pmcl pmft pmXN lo H0 E) args s R.cells R.slots (fun q => lo ≤ q)) ((fun b => match b with | 0 => 0 | 1 => 30 | _ => 31 : Nat → Nat) b)) ?_ 0
  intro b Y hY
  match b with
  | 0 =>
    show pm_le _ (pmV p l e R s m args below meth c G lo H0 1 pmcl pmft (vy_MQ below (pmQc G pmcl pmft lo H0 E) (pmXC G pmcl pmft pmXN lo H0 E) args s R.cells R.slots (fun q => lo ≤ q)) 0)
    exact (sm_aload_n F dX3_isOne_0 rfl (sm_getI F cls_3 (k := 2) rfl (by decide) rfl q190 (fun _ h => h) dX3_isOne_1 (sm_iconst F dX3_isOne_4 (by unfold inI; omega) (sm_cmpne F (tgt := 30) dX3_isOne_5 (by decide) (sm_kil (hY 1)) (sm_aload_n F dX3_isOne_8 rfl (sm_getI F cls_3 (k := 1) rfl (by decide) rfl q185 (fun _ h => h) dX3_isOne_9 (sm_iconst F dX3_isOne_12 (by unfold inI; omega) (sm_cmpne F (tgt := 30) dX3_isOne_13 (by decide) (sm_kil (hY 1)) (sm_aload_n F dX3_isOne_16 rfl (sm_getR F cls_3 (k := 0) rfl (by decide) rfl q178 (fun _ h => h) dX3_isOne_17 (sm_iconst F dX3_isOne_20 (by unfold inI; omega) (sm_iald F kt_100 dX3_isOne_21 (sm_iconst F dX3_isOne_22 (by unfold inI; omega) (sm_cmpne F (tgt := 30) dX3_isOne_23 (by decide) (sm_kil (hY 1)) (sm_iconst F dX3_isOne_26 (by unfold inI; omega) (sm_goto F (tgt := 31) dX3_isOne_27 (by decide) (sm_kil (hY 2))))))))))))))))))
  | 1 =>
    show pm_le _ (pmV p l e R s m args below meth c G lo H0 1 pmcl pmft (vy_MQ below (pmQc G pmcl pmft lo H0 E) (pmXC G pmcl pmft pmXN lo H0 E) args s R.cells R.slots (fun q => lo ≤ q)) 30)
    exact (sm_iconst F dX3_isOne_30 (by unfold inI; omega) (hY 2))
  | z + 2 =>
    show pm_le _ (pmV p l e R s m args below meth c G lo H0 1 pmcl pmft (vy_MQ below (pmQc G pmcl pmft lo H0 E) (pmXC G pmcl pmft pmXN lo H0 E) args s R.cells R.slots (fun q => lo ≤ q)) 31)
    exact (sm_zret F hr hlocks dX3_isOne_31)
set_option maxHeartbeats 4000000 in
theorem met_X3_fits (l : Launch) : pmMet l G pmcl pmft pmkt pmNW pmFW XE pmXN lo H0 yX3_fits (ws_ yX3_fits cX3_fits 1 (some .boolean)) 0 0 1 P_X3_fits := by
  refine pmMet.of (by decide +kernel) (by decide) ?_
  intro p e s m args below meth c R E hfr hlc F X hr hlocks hexc hnm
  refine wp_sim (V := fun b => pmV p l e R s m args below meth c G lo H0 1 pmcl pmft (vy_MQ below (pmQc G pmcl pmft lo H0 E) (pmXC G pmcl pmft pmXN lo H0 E) args s R.cells R.slots (fun q => lo ≤ q)) ((fun b => match b with | 0 => 0 | 1 => 31 | 2 => 35 | _ => 36 : Nat → Nat) b)) ?_ 0
  intro b Y hY
  match b with
  | 0 =>
    show pm_le _ (pmV p l e R s m args below meth c G lo H0 1 pmcl pmft (vy_MQ below (pmQc G pmcl pmft lo H0 E) (pmXC G pmcl pmft pmXN lo H0 E) args s R.cells R.slots (fun q => lo ≤ q)) 0)
    exact (sm_aload_n F dX3_fits_0 rfl (sm_getI F cls_3 (k := 1) rfl (by decide) rfl q185 (fun _ h => h) dX3_fits_1 (sm_bipush F dX3_fits_4 ⟨by unfold inI; omega, by decide⟩ (sm_cmplt F (tgt := 31) dX3_fits_6 (by decide) (sm_kil (hY 1)) (sm_aload_n F dX3_fits_9 rfl (sm_getI F cls_3 (k := 1) rfl (by decide) rfl q185 (fun _ h => h) dX3_fits_10 (sm_bipush F dX3_fits_13 ⟨by unfold inI; omega, by decide⟩ (sm_cmpne F (tgt := 35) dX3_fits_15 (by decide) (sm_kil (hY 2)) (sm_aload_n F dX3_fits_18 rfl (sm_getR F cls_3 (k := 0) rfl (by decide) rfl q178 (fun _ h => h) dX3_fits_19 (sm_bipush F dX3_fits_22 ⟨by unfold inI; omega, by decide⟩ (sm_iald F kt_100 dX3_fits_24 (sm_sipush F dX3_fits_25 ⟨by unfold inI; omega, by decide⟩ (sm_cmpge F (tgt := 35) dX3_fits_28 (by decide) (sm_kil (hY 2)) (sm_kil (hY 1))))))))))))))))
  | 1 =>
    show pm_le _ (pmV p l e R s m args below meth c G lo H0 1 pmcl pmft (vy_MQ below (pmQc G pmcl pmft lo H0 E) (pmXC G pmcl pmft pmXN lo H0 E) args s R.cells R.slots (fun q => lo ≤ q)) 31)
    exact (sm_iconst F dX3_fits_31 (by unfold inI; omega) (sm_goto F (tgt := 36) dX3_fits_32 (by decide) (hY 3)))
  | 2 =>
    show pm_le _ (pmV p l e R s m args below meth c G lo H0 1 pmcl pmft (vy_MQ below (pmQc G pmcl pmft lo H0 E) (pmXC G pmcl pmft pmXN lo H0 E) args s R.cells R.slots (fun q => lo ≤ q)) 35)
    exact (sm_iconst F dX3_fits_35 (by unfold inI; omega) (hY 3))
  | z + 3 =>
    show pm_le _ (pmV p l e R s m args below meth c G lo H0 1 pmcl pmft (vy_MQ below (pmQc G pmcl pmft lo H0 E) (pmXC G pmcl pmft pmXN lo H0 E) args s R.cells R.slots (fun q => lo ≤ q)) 36)
    exact (sm_zret F hr hlocks dX3_fits_36)
set_option maxHeartbeats 4000000 in
theorem met_X3_twice (l : Launch) : pmMet l G pmcl pmft pmkt pmNW pmFW XE pmXN lo H0 yX3_twice (ws_ yX3_twice cX3_twice 5 none) 0 0 2 P_X3_twice := by
  refine pmMet.of (by decide +kernel) (by decide) ?_
  intro p e s m args below meth c R E hfr hlc F X hr hlocks hexc hnm
  refine wp_sim (V := fun b => pmV p l e R s m args below meth c G lo H0 5 pmcl pmft (vy_MQ below (pmQc G pmcl pmft lo H0 E) (pmXC G pmcl pmft pmXN lo H0 E) args s R.cells R.slots (fun q => lo ≤ q)) ((fun b => match b with | 0 => 0 | 1 => 4 | 2 => 36 | 3 => 80 | _ => 104 : Nat → Nat) b)) ?_ 0
  intro b Y hY
  match b with
  | 0 =>
    show pm_le _ (pmV p l e R s m args below meth c G lo H0 5 pmcl pmft (vy_MQ below (pmQc G pmcl pmft lo H0 E) (pmXC G pmcl pmft pmXN lo H0 E) args s R.cells R.slots (fun q => lo ≤ q)) 0)
    exact (sm_iload_n F dX3_twice_0 rfl (sm_istore_n F dX3_twice_1 rfl (by decide) (sm_iconst F dX3_twice_2 (by unfold inI; omega) (sm_istore_n F dX3_twice_3 rfl (by decide) (sm_kil (hY 1))))))
  | 1 =>
    show pm_le _ (pmV p l e R s m args below meth c G lo H0 5 pmcl pmft (vy_MQ below (pmQc G pmcl pmft lo H0 E) (pmXC G pmcl pmft pmXN lo H0 E) args s R.cells R.slots (fun q => lo ≤ q)) 4)
    exact (sm_iload_n F dX3_twice_4 rfl (sm_aload_n F dX3_twice_5 rfl (sm_getI F cls_3 (k := 1) rfl (by decide) rfl q185 (fun _ h => h) dX3_twice_6 (sm_cmpge F (tgt := 56) dX3_twice_9 (by decide) (sm_iload_n F dX3_twice_56 rfl (sm_ifle F (tgt := 80) dX3_twice_57 (by decide) (sm_kil (hY 3)) (sm_aload_n F dX3_twice_60 rfl (sm_getR F cls_3 (k := 0) rfl (by decide) rfl q178 (fun _ h => h) dX3_twice_61 (sm_aload_n F dX3_twice_64 rfl (sm_getI F cls_3 (k := 1) rfl (by decide) rfl q185 (fun _ h => h) dX3_twice_65 (sm_iload_n F dX3_twice_68 rfl (sm_iast F kt_100 dX3_twice_69 (sm_aload_n F dX3_twice_70 rfl (sm_dup F dX3_twice_71 (sm_getI F cls_3 (k := 1) rfl (by decide) rfl q185 (fun _ h => h) dX3_twice_72 (sm_iconst F dX3_twice_75 (by unfold inI; omega) (sm_iadd F dX3_twice_76 (sm_putI F cls_3 (k := 1) rfl (by decide) rfl rfl rfl q185 (fun _ h => h) dX3_twice_77 (sm_kil (hY 3)))))))))))))))) (sm_iconst F dX3_twice_12 (by unfold inI; omega) (sm_aload_n F dX3_twice_13 rfl (sm_getR F cls_3 (k := 0) rfl (by decide) rfl q178 (fun _ h => h) dX3_twice_14 (sm_iload_n F dX3_twice_17 rfl (sm_iald F kt_100 dX3_twice_18 (sm_imul F dX3_twice_19 (sm_iload_n F dX3_twice_20 rfl (sm_iadd F dX3_twice_21 (sm_istore F dX3_twice_22 (by decide) (sm_iload F dX3_twice_24 (sm_ldc F dX3_twice_26 (by unfold inI; omega) q1276 (sm_cmplt F (tgt := 35) dX3_twice_28 (by decide) (sm_iconst F dX3_twice_35 (by unfold inI; omega) (sm_kil (hY 2))) (sm_iconst F dX3_twice_31 (by unfold inI; omega) (sm_goto F (tgt := 36) dX3_twice_32 (by decide) (sm_kil (hY 2))))))))))))))))))))
  | 2 =>
    show pm_le _ (pmV p l e R s m args below meth c G lo H0 5 pmcl pmft (vy_MQ below (pmQc G pmcl pmft lo H0 E) (pmXC G pmcl pmft pmXN lo H0 E) args s R.cells R.slots (fun q => lo ≤ q)) 36)
    exact (sm_istore_n F dX3_twice_36 rfl (by decide) (sm_aload_n F dX3_twice_37 rfl (sm_getR F cls_3 (k := 0) rfl (by decide) rfl q178 (fun _ h => h) dX3_twice_38 (sm_iload_n F dX3_twice_41 rfl (sm_iload F dX3_twice_42 (sm_ldc F dX3_twice_44 (by unfold inI; omega) q1276 (sm_iload_n F dX3_twice_46 rfl (sm_imul F dX3_twice_47 (sm_isub F dX3_twice_48 (sm_iast F kt_100 dX3_twice_49 (sm_iinc F dX3_twice_50 (by decide) (sm_goto F (tgt := 4) dX3_twice_53 (by decide) (sm_kil (hY 1))))))))))))))
  | 3 =>
    show pm_le _ (pmV p l e R s m args below meth c G lo H0 5 pmcl pmft (vy_MQ below (pmQc G pmcl pmft lo H0 E) (pmXC G pmcl pmft pmXN lo H0 E) args s R.cells R.slots (fun q => lo ≤ q)) 80)
    exact (sm_aload_n F dX3_twice_80 rfl (sm_aload_n F dX3_twice_81 rfl (sm_getI F cls_3 (k := 1) rfl (by decide) rfl q185 (fun _ h => h) dX3_twice_82 (sm_ifle F (tgt := 103) dX3_twice_85 (by decide) (sm_iconst F dX3_twice_103 (by unfold inI; omega) (sm_kil (hY 4))) (sm_aload_n F dX3_twice_88 rfl (sm_getI F cls_3 (k := 2) rfl (by decide) rfl q190 (fun _ h => h) dX3_twice_89 (sm_ifge F (tgt := 99) dX3_twice_92 (by decide) (sm_iconst F dX3_twice_99 (by unfold inI; omega) (sm_goto F (tgt := 104) dX3_twice_100 (by decide) (sm_kil (hY 4)))) (sm_iconst F dX3_twice_95 (by unfold inI; omega) (sm_goto F (tgt := 104) dX3_twice_96 (by decide) (sm_kil (hY 4)))))))))))
  | z + 4 =>
    show pm_le _ (pmV p l e R s m args below meth c G lo H0 5 pmcl pmft (vy_MQ below (pmQc G pmcl pmft lo H0 E) (pmXC G pmcl pmft pmXN lo H0 E) args s R.cells R.slots (fun q => lo ≤ q)) 104)
    exact (sm_putI F cls_3 (k := 2) rfl (by decide) rfl rfl rfl q190 (fun _ h => h) dX3_twice_104 (sm_vret F hr hlocks dX3_twice_107))
set_option maxHeartbeats 4000000 in
theorem met_X3_isOdd (l : Launch) : pmMet l G pmcl pmft pmkt pmNW pmFW XE pmXN lo H0 yX3_isOdd (ws_ yX3_isOdd cX3_isOdd 1 (some .boolean)) 0 0 1 P_X3_isOdd := by
  refine pmMet.of (by decide +kernel) (by decide) ?_
  intro p e s m args below meth c R E hfr hlc F X hr hlocks hexc hnm
  refine wp_sim (V := fun b => pmV p l e R s m args below meth c G lo H0 1 pmcl pmft (vy_MQ below (pmQc G pmcl pmft lo H0 E) (pmXC G pmcl pmft pmXN lo H0 E) args s R.cells R.slots (fun q => lo ≤ q)) ((fun b => match b with | 0 => 0 | 1 => 23 | _ => 24 : Nat → Nat) b)) ?_ 0
  intro b Y hY
  match b with
  | 0 =>
    show pm_le _ (pmV p l e R s m args below meth c G lo H0 1 pmcl pmft (vy_MQ below (pmQc G pmcl pmft lo H0 E) (pmXC G pmcl pmft pmXN lo H0 E) args s R.cells R.slots (fun q => lo ≤ q)) 0)
    exact (sm_aload_n F dX3_isOdd_0 rfl (sm_getI F cls_3 (k := 1) rfl (by decide) rfl q185 (fun _ h => h) dX3_isOdd_1 (sm_ifle F (tgt := 23) dX3_isOdd_4 (by decide) (sm_kil (hY 1)) (sm_aload_n F dX3_isOdd_7 rfl (sm_getR F cls_3 (k := 0) rfl (by decide) rfl q178 (fun _ h => h) dX3_isOdd_8 (sm_iconst F dX3_isOdd_11 (by unfold inI; omega) (sm_iald F kt_100 dX3_isOdd_12 (sm_iconst F dX3_isOdd_13 (by unfold inI; omega) (sm_iand F dX3_isOdd_14 (sm_iconst F dX3_isOdd_15 (by unfold inI; omega) (sm_cmpne F (tgt := 23) dX3_isOdd_16 (by decide) (sm_kil (hY 1)) (sm_iconst F dX3_isOdd_19 (by unfold inI; omega) (sm_goto F (tgt := 24) dX3_isOdd_20 (by decide) (sm_kil (hY 2)))))))))))))))
  | 1 =>
    show pm_le _ (pmV p l e R s m args below meth c G lo H0 1 pmcl pmft (vy_MQ below (pmQc G pmcl pmft lo H0 E) (pmXC G pmcl pmft pmXN lo H0 E) args s R.cells R.slots (fun q => lo ≤ q)) 23)
    exact (sm_iconst F dX3_isOdd_23 (by unfold inI; omega) (hY 2))
  | z + 2 =>
    show pm_le _ (pmV p l e R s m args below meth c G lo H0 1 pmcl pmft (vy_MQ below (pmQc G pmcl pmft lo H0 E) (pmXC G pmcl pmft pmXN lo H0 E) args s R.cells R.slots (fun q => lo ≤ q)) 24)
    exact (sm_zret F hr hlocks dX3_isOdd_24)
set_option maxHeartbeats 4000000 in
theorem met_X3_halve (l : Launch) : pmMet l G pmcl pmft pmkt pmNW pmFW XE pmXN lo H0 yX3_halve (ws_ yX3_halve cX3_halve 4 none) 1 20 1 P_X3_halve := by
  refine pmMet.of (by decide +kernel) (by decide) ?_
  intro p e s m args below meth c R E hfr hlc F X hr hlocks hexc hnm
  refine wp_sim (V := fun b => pmV p l e R s m args below meth c G lo H0 4 pmcl pmft (vy_MQ below (pmQc G pmcl pmft lo H0 E) (pmXC G pmcl pmft pmXN lo H0 E) args s R.cells R.slots (fun q => lo ≤ q)) ((fun b => match b with | 0 => 0 | _ => 9 : Nat → Nat) b)) ?_ 0
  intro b Y hY
  match b with
  | 0 =>
    show pm_le _ (pmV p l e R s m args below meth c G lo H0 4 pmcl pmft (vy_MQ below (pmQc G pmcl pmft lo H0 E) (pmXC G pmcl pmft pmXN lo H0 E) args s R.cells R.slots (fun q => lo ≤ q)) 0)
    exact (sm_iconst F dX3_halve_0 (by unfold inI; omega) (sm_istore_n F dX3_halve_1 rfl (by decide) (sm_aload_n F dX3_halve_2 rfl (sm_getI F cls_3 (k := 1) rfl (by decide) rfl q185 (fun _ h => h) dX3_halve_3 (sm_iconst F dX3_halve_6 (by unfold inI; omega) (sm_isub F dX3_halve_7 (sm_istore_n F dX3_halve_8 rfl (by decide) (hY 1))))))))
  | z + 1 =>
    show pm_le _ (pmV p l e R s m args below meth c G lo H0 4 pmcl pmft (vy_MQ below (pmQc G pmcl pmft lo H0 E) (pmXC G pmcl pmft pmXN lo H0 E) args s R.cells R.slots (fun q => lo ≤ q)) 9)
    exact (sm_iload_n F dX3_halve_9 rfl (sm_iflt F (tgt := 44) dX3_halve_10 (by decide) (sm_aload_n F dX3_halve_44 rfl (sm_callV F X (met_X3_trim l) cls_3 (fun _ _ => cwV 0 F.1.2.2.2.2 (lw_V q1292 q951 q952 q102 q953) rfl rfl rfl (by decide +kernel) ⟨by rw [hfr]; exact Nat.le_of_ble_eq_true rfl, by rw [hlc]; exact Nat.le_of_ble_eq_true rfl⟩) dX3_halve_45 (sm_vret F hr hlocks dX3_halve_48) sx_none)) (sm_iload_n F dX3_halve_13 rfl (sm_ldc F dX3_halve_14 (by unfold inI; omega) q1276 (sm_imul F dX3_halve_16 (sm_aload_n F dX3_halve_17 rfl (sm_getR F cls_3 (k := 0) rfl (by decide) rfl q178 (fun _ h => h) dX3_halve_18 (sm_iload_n F dX3_halve_21 rfl (sm_iald F kt_100 dX3_halve_22 (sm_iadd F dX3_halve_23 (sm_istore_n F dX3_halve_24 rfl (by decide) (sm_aload_n F dX3_halve_25 rfl (sm_getR F cls_3 (k := 0) rfl (by decide) rfl q178 (fun _ h => h) dX3_halve_26 (sm_iload_n F dX3_halve_29 rfl (sm_iload_n F dX3_halve_30 rfl (sm_iconst F dX3_halve_31 (by unfold inI; omega) (sm_ishr F dX3_halve_32 (sm_iast F kt_100 dX3_halve_33 (sm_iload_n F dX3_halve_34 rfl (sm_iconst F dX3_halve_35 (by unfold inI; omega) (sm_iand F dX3_halve_36 (sm_istore_n F dX3_halve_37 rfl (by decide) (sm_iinc F dX3_halve_38 (by decide) (sm_goto F (tgt := 9) dX3_halve_41 (by decide) (sm_kil (hY 1))))))))))))))))))))))))))
set_option maxHeartbeats 4000000 in
theorem met_X5_init (l : Launch) : pmMet l G pmcl pmft pmkt pmNW pmFW XE pmXN lo H0 yX5_init (ws_ yX5_init cX5_init 1 none) 1 20 1 P_X5_init := by
  refine pmMet.of (by decide +kernel) (by decide) ?_
  intro p e s m args below meth c R E hfr hlc F X hr hlocks hexc hnm
  refine wp_sim (V := fun b => pmV p l e R s m args below meth c G lo H0 1 pmcl pmft (vy_MQ below (pmQc G pmcl pmft lo H0 E) (pmXC G pmcl pmft pmXN lo H0 E) args s R.cells R.slots (fun q => lo ≤ q)) ((fun b => match b with | _ => 0 : Nat → Nat) b)) ?_ 0
  intro b Y hY
  match b with
  | _ =>
    show pm_le _ (pmV p l e R s m args below meth c G lo H0 1 pmcl pmft (vy_MQ below (pmQc G pmcl pmft lo H0 E) (pmXC G pmcl pmft pmXN lo H0 E) args s R.cells R.slots (fun q => lo ≤ q)) 0)
    exact (sm_aload_n F dX5_init_0 rfl (sm_objinit F q234 q141 q142 (by rw [hfr]; exact Nat.le_of_ble_eq_true rfl) (by rw [hlc]; exact Nat.le_of_ble_eq_true rfl) dX5_init_1 (sm_aload_n F dX5_init_4 rfl (sm_sipush F dX5_init_5 ⟨by unfold inI; omega, by decide⟩ (sm_newa (atype := .int) (ty := .int) F rfl (Or.inl ⟨by decide, rfl⟩) (by decide) (by decide) (fun C h => by cases h) kt_100 q163 dX5_init_8 (sm_putRF F cls_5 (k := 0) rfl (by decide) rfl (Or.inr ⟨_, rfl⟩) rfl hnm rfl q235 (fun _ h => h) dX5_init_10 (sm_vret F hr hlocks dX5_init_13)))))))
set_option maxHeartbeats 4000000 in
theorem met_X5_has (l : Launch) : pmMet l G pmcl pmft pmkt pmNW pmFW XE pmXN lo H0 yX5_has (ws_ yX5_has cX5_has 2 (some .boolean)) 0 0 2 P_X5_has := by
  refine pmMet.of (by decide +kernel) (by decide) ?_
  intro p e s m args below meth c R E hfr hlc F X hr hlocks hexc hnm
  refine wp_sim (V := fun b => pmV p l e R s m args below meth c G lo H0 2 pmcl pmft (vy_MQ below (pmQc G pmcl pmft lo H0 E) (pmXC G pmcl pmft pmXN lo H0 E) args s R.cells R.slots (fun q => lo ≤ q)) ((fun b => match b with | 0 => 0 | _ => 17 : Nat → Nat) b)) ?_ 0
  intro b Y hY
  match b with
  | 0 =>
    show pm_le _ (pmV p l e R s m args below meth c G lo H0 2 pmcl pmft (vy_MQ below (pmQc G pmcl pmft lo H0 E) (pmXC G pmcl pmft pmXN lo H0 E) args s R.cells R.slots (fun q => lo ≤ q)) 0)
    exact (sm_aload_n F dX5_has_0 rfl (sm_getR F cls_5 (k := 0) rfl (by decide) rfl q235 (fun _ h => h) dX5_has_1 (sm_bipush F dX5_has_4 ⟨by unfold inI; omega, by decide⟩ (sm_iload_n F dX5_has_6 rfl (sm_imul F dX5_has_7 (sm_iald F kt_100 dX5_has_8 (sm_ifeq F (tgt := 16) dX5_has_9 (by decide) (sm_iconst F dX5_has_16 (by unfold inI; omega) (sm_kil (hY 1))) (sm_iconst F dX5_has_12 (by unfold inI; omega) (sm_goto F (tgt := 17) dX5_has_13 (by decide) (sm_kil (hY 1)))))))))))
  | z + 1 =>
    show pm_le _ (pmV p l e R s m args below meth c G lo H0 2 pmcl pmft (vy_MQ below (pmQc G pmcl pmft lo H0 E) (pmXC G pmcl pmft pmXN lo H0 E) args s R.cells R.slots (fun q => lo ≤ q)) 17)
    exact (sm_zret F hr hlocks dX5_has_17)
set_option maxHeartbeats 4000000 in
theorem met_X5_kind (l : Launch) : pmMet l G pmcl pmft pmkt pmNW pmFW XE pmXN lo H0 yX5_kind (ws_ yX5_kind cX5_kind 1 (some .int)) 0 0 1 P_X5_kind := by
  refine pmMet.of (by decide +kernel) (by decide) ?_
  intro p e s m args below meth c R E hfr hlc F X hr hlocks hexc hnm
  refine wp_sim (V := fun b => pmV p l e R s m args below meth c G lo H0 1 pmcl pmft (vy_MQ below (pmQc G pmcl pmft lo H0 E) (pmXC G pmcl pmft pmXN lo H0 E) args s R.cells R.slots (fun q => lo ≤ q)) ((fun b => match b with | _ => 0 : Nat → Nat) b)) ?_ 0
  intro b Y hY
  match b with
  | _ =>
    show pm_le _ (pmV p l e R s m args below meth c G lo H0 1 pmcl pmft (vy_MQ below (pmQc G pmcl pmft lo H0 E) (pmXC G pmcl pmft pmXN lo H0 E) args s R.cells R.slots (fun q => lo ≤ q)) 0)
    exact (sm_iconst F dX5_kind_0 (by unfold inI; omega) (sm_iret F hr hlocks dX5_kind_1))
set_option maxHeartbeats 4000000 in
theorem met_X5_save (l : Launch) : pmMet l G pmcl pmft pmkt pmNW pmFW XE pmXN lo H0 yX5_save (ws_ yX5_save cX5_save 4 none) 0 0 3 P_X5_save := by
  refine pmMet.of (by decide +kernel) (by decide) ?_
  intro p e s m args below meth c R E hfr hlc F X hr hlocks hexc hnm
  refine wp_sim (V := fun b => pmV p l e R s m args below meth c G lo H0 4 pmcl pmft (vy_MQ below (pmQc G pmcl pmft lo H0 E) (pmXC G pmcl pmft pmXN lo H0 E) args s R.cells R.slots (fun q => lo ≤ q)) ((fun b => match b with | 0 => 0 | _ => 17 : Nat → Nat) b)) ?_ 0
  intro b Y hY
  match b with
  | 0 =>
    show pm_le _ (pmV p l e R s m args below meth c G lo H0 4 pmcl pmft (vy_MQ below (pmQc G pmcl pmft lo H0 E) (pmXC G pmcl pmft pmXN lo H0 E) args s R.cells R.slots (fun q => lo ≤ q)) 0)
    exact (sm_aload_n F dX5_save_0 rfl (sm_getR F cls_5 (k := 0) rfl (by decide) rfl q235 (fun _ h => h) dX5_save_1 (sm_iload_n F dX5_save_4 rfl (sm_aload_n F dX5_save_5 rfl (sm_getIN F cls_3 (k := 2) rfl (by decide) rfl (X.1.1 _ nw_q195).2 (fun _ h => h) dX5_save_6 (sm_aload_n F dX5_save_9 rfl (sm_getIN F cls_3 (k := 1) rfl (by decide) rfl (X.1.1 _ nw_q187).2 (fun _ h => h) dX5_save_10 (sm_imul F dX5_save_13 (sm_iast F kt_100 dX5_save_14 (sm_iconst F dX5_save_15 (by unfold inI; omega) (sm_istore_n F dX5_save_16 rfl (by decide) (hY 1))))))))))))
  | z + 1 =>
    show pm_le _ (pmV p l e R s m args below meth c G lo H0 4 pmcl pmft (vy_MQ below (pmQc G pmcl pmft lo H0 E) (pmXC G pmcl pmft pmXN lo H0 E) args s R.cells R.slots (fun q => lo ≤ q)) 17)
    exact (sm_iload_n F dX5_save_17 rfl (sm_aload_n F dX5_save_18 rfl (sm_getIN F cls_3 (k := 1) rfl (by decide) rfl (X.1.1 _ nw_q187).2 (fun _ h => h) dX5_save_19 (sm_cmpge F (tgt := 47) dX5_save_22 (by decide) (sm_vret F hr hlocks dX5_save_47) (sm_aload_n F dX5_save_25 rfl (sm_getR F cls_5 (k := 0) rfl (by decide) rfl q235 (fun _ h => h) dX5_save_26 (sm_iload_n F dX5_save_29 rfl (sm_iconst F dX5_save_30 (by unfold inI; omega) (sm_iadd F dX5_save_31 (sm_iload_n F dX5_save_32 rfl (sm_iadd F dX5_save_33 (sm_aload_n F dX5_save_34 rfl (sm_getRN F cls_3 (k := 0) rfl (by decide) rfl (X.1.1 _ nw_q181).2 (fun _ h => h) dX5_save_35 (sm_iload_n F dX5_save_38 rfl (sm_iald F kt_100 dX5_save_39 (sm_iast F kt_100 dX5_save_40 (sm_iinc F dX5_save_41 (by decide) (sm_goto F (tgt := 17) dX5_save_44 (by decide) (hY 1)))))))))))))))))))
set_option maxHeartbeats 4000000 in
theorem met_X5_isRight (l : Launch) : pmMet l G pmcl pmft pmkt pmNW pmFW XE pmXN lo H0 yX5_isRight (ws_ yX5_isRight cX5_isRight 1 (some .boolean)) 0 0 1 P_X5_isRight := by
  refine pmMet.of (by decide +kernel) (by decide) ?_
  intro p e s m args below meth c R E hfr hlc F X hr hlocks hexc hnm
  refine wp_sim (V := fun b => pmV p l e R s m args below meth c G lo H0 1 pmcl pmft (vy_MQ below (pmQc G pmcl pmft lo H0 E) (pmXC G pmcl pmft pmXN lo H0 E) args s R.cells R.slots (fun q => lo ≤ q)) ((fun b => match b with | 0 => 0 | _ => 14 : Nat → Nat) b)) ?_ 0
  intro b Y hY
  match b with
  | 0 =>
    show pm_le _ (pmV p l e R s m args below meth c G lo H0 1 pmcl pmft (vy_MQ below (pmQc G pmcl pmft lo H0 E) (pmXC G pmcl pmft pmXN lo H0 E) args s R.cells R.slots (fun q => lo ≤ q)) 0)
    exact (sm_aload_n F dX5_isRight_0 rfl (sm_getI F cls_5 (k := 1) rfl (by decide) rfl q237 (fun _ h => h) dX5_isRight_1 (sm_bipush F dX5_isRight_4 ⟨by unfold inI; omega, by decide⟩ (sm_cmpgt F (tgt := 13) dX5_isRight_6 (by decide) (sm_iconst F dX5_isRight_13 (by unfold inI; omega) (sm_kil (hY 1))) (sm_iconst F dX5_isRight_9 (by unfold inI; omega) (sm_goto F (tgt := 14) dX5_isRight_10 (by decide) (sm_kil (hY 1))))))))
  | z + 1 =>
    show pm_le _ (pmV p l e R s m args below meth c G lo H0 1 pmcl pmft (vy_MQ below (pmQc G pmcl pmft lo H0 E) (pmXC G pmcl pmft pmXN lo H0 E) args s R.cells R.slots (fun q => lo ≤ q)) 14)
    exact (sm_zret F hr hlocks dX5_isRight_14)
set_option maxHeartbeats 4000000 in
theorem met_X6_init (l : Launch) : pmMet l G pmcl pmft pmkt pmNW pmFW XE pmXN lo H0 yX6_init (ws_ yX6_init cX6_init 2 none) 2 41 2 P_X6_init := by
  refine pmMet.of (by decide +kernel) (by decide) ?_
  intro p e s m args below meth c R E hfr hlc F X hr hlocks hexc hnm
  refine wp_sim (V := fun b => pmV p l e R s m args below meth c G lo H0 2 pmcl pmft (vy_MQ below (pmQc G pmcl pmft lo H0 E) (pmXC G pmcl pmft pmXN lo H0 E) args s R.cells R.slots (fun q => lo ≤ q)) ((fun b => match b with | _ => 0 : Nat → Nat) b)) ?_ 0
  intro b Y hY
  match b with
  | _ =>
    show pm_le _ (pmV p l e R s m args below meth c G lo H0 2 pmcl pmft (vy_MQ below (pmQc G pmcl pmft lo H0 E) (pmXC G pmcl pmft pmXN lo H0 E) args s R.cells R.slots (fun q => lo ≤ q)) 0)
    exact (sm_aload_n F dX6_init_0 rfl (sm_objinit F q250 q141 q142 (by rw [hfr]; exact Nat.le_of_ble_eq_true rfl) (by rw [hlc]; exact Nat.le_of_ble_eq_true rfl) dX6_init_1 (sm_aload_n F dX6_init_4 rfl (sm_new F cls_3 q251 q173 q102 dX6_init_5 (sm_dup F dX6_init_8 (sm_sipush F dX6_init_9 ⟨by unfold inI; omega, by decide⟩ (sm_callI F X (met_X3_init l) (fun _ _ => cwI 1 F.1.2.2.2.2 (lw_meth q176) rfl rfl rfl (F.1.2.2.2.2 _ q102) (F.1.2.2.2.2 _ q252) (F.1.2.2.2.2 _ q175) rfl (by decide +kernel) ⟨by rw [hfr]; exact Nat.le_of_ble_eq_true rfl, by rw [hlc]; exact Nat.le_of_ble_eq_true rfl⟩) dX6_init_12 (sm_putRF F cls_6 (k := 1) rfl (by decide) rfl (Or.inl ⟨_, rfl⟩) rfl hnm rfl q259 (fun _ h => h) dX6_init_15 (sm_aload_n F dX6_init_18 rfl (sm_new F cls_3 q251 q173 q102 dX6_init_19 (sm_dup F dX6_init_22 (sm_sipush F dX6_init_23 ⟨by unfold inI; omega, by decide⟩ (sm_callI F X (met_X3_init l) (fun _ _ => cwI 1 F.1.2.2.2.2 (lw_meth q176) rfl rfl rfl (F.1.2.2.2.2 _ q102) (F.1.2.2.2.2 _ q252) (F.1.2.2.2.2 _ q175) rfl (by decide +kernel) ⟨by rw [hfr]; exact Nat.le_of_ble_eq_true rfl, by rw [hlc]; exact Nat.le_of_ble_eq_true rfl⟩) dX6_init_26 (sm_putRF F cls_6 (k := 2) rfl (by decide) rfl (Or.inl ⟨_, rfl⟩) rfl hnm rfl q263 (fun _ h => h) dX6_init_29 (sm_aload_n F dX6_init_32 rfl (sm_new F cls_3 q251 q173 q102 dX6_init_33 (sm_dup F dX6_init_36 (sm_sipush F dX6_init_37 ⟨by unfold inI; omega, by decide⟩ (sm_callI F X (met_X3_init l) (fun _ _ => cwI 1 F.1.2.2.2.2 (lw_meth q176) rfl rfl rfl (F.1.2.2.2.2 _ q102) (F.1.2.2.2.2 _ q252) (F.1.2.2.2.2 _ q175) rfl (by decide +kernel) ⟨by rw [hfr]; exact Nat.le_of_ble_eq_true rfl, by rw [hlc]; exact Nat.le_of_ble_eq_true rfl⟩) dX6_init_40 (sm_putRF F cls_6 (k := 3) rfl (by decide) rfl (Or.inl ⟨_, rfl⟩) rfl hnm rfl q267 (fun _ h => h) dX6_init_43 (sm_aload_n F dX6_init_46 rfl (sm_new F cls_3 q251 q173 q102 dX6_init_47 (sm_dup F dX6_init_50 (sm_sipush F dX6_init_51 ⟨by unfold inI; omega, by decide⟩ (sm_callI F X (met_X3_init l) (fun _ _ => cwI 1 F.1.2.2.2.2 (lw_meth q176) rfl rfl rfl (F.1.2.2.2.2 _ q102) (F.1.2.2.2.2 _ q252) (F.1.2.2.2.2 _ q175) rfl (by decide +kernel) ⟨by rw [hfr]; exact Nat.le_of_ble_eq_true rfl, by rw [hlc]; exact Nat.le_of_ble_eq_true rfl⟩) dX6_init_54 (sm_putRF F cls_6 (k := 4) rfl (by decide) rfl (Or.inl ⟨_, rfl⟩) rfl hnm rfl q268 (fun _ h => h) dX6_init_57 (sm_aload_n F dX6_init_60 rfl (sm_aload_n F dX6_init_61 rfl (sm_putRF F cls_6 (k := 0) rfl (by decide) rfl (Or.inl ⟨_, rfl⟩) rfl hnm rfl q258 (fun _ h => h) dX6_init_62 (sm_aload_n F dX6_init_65 rfl (sm_getR F cls_6 (k := 2) rfl (by decide) rfl q263 (fun _ h => h) dX6_init_66 (sm_lconst F dX6_init_69 ⟨by unfold inL; omega, by decide⟩ (sm_callV F X (met_X3_set l) cls_3 (fun _ _ => cwV 1 F.1.2.2.2.2 (lw_V q253 q254 q255 q102 q256) rfl rfl rfl (by decide +kernel) ⟨by rw [hfr]; exact Nat.le_of_ble_eq_true rfl, by rw [hlc]; exact Nat.le_of_ble_eq_true rfl⟩) dX6_init_70 (sm_vret F hr hlocks dX6_init_73) sx_none)))))))) sx_none)))))) sx_none)))))) sx_none)))))) sx_none)))))))
set_option maxHeartbeats 4000000 in
theorem met_X6_fits (l : Launch) : pmMet l G pmcl pmft pmkt pmNW pmFW XE pmXN lo H0 yX6_fits (ws_ yX6_fits cX6_fits 1 (some .boolean)) 1 20 1 P_X6_fits := by
  refine pmMet.of (by decide +kernel) (by decide) ?_
  intro p e s m args below meth c R E hfr hlc F X hr hlocks hexc hnm
  refine wp_sim (V := fun b => pmV p l e R s m args below meth c G lo H0 1 pmcl pmft (vy_MQ below (pmQc G pmcl pmft lo H0 E) (pmXC G pmcl pmft pmXN lo H0 E) args s R.cells R.slots (fun q => lo ≤ q)) ((fun b => match b with | 0 => 0 | 1 => 24 | _ => 25 : Nat → Nat) b)) ?_ 0
  intro b Y hY
  match b with
  | 0 =>
    show pm_le _ (pmV p l e R s m args below meth c G lo H0 1 pmcl pmft (vy_MQ below (pmQc G pmcl pmft lo H0 E) (pmXC G pmcl pmft pmXN lo H0 E) args s R.cells R.slots (fun q => lo ≤ q)) 0)
    exact (sm_aload_n F dX6_fits_0 rfl (sm_getR F cls_6 (k := 1) rfl (by decide) rfl q259 (fun _ h => h) dX6_fits_1 (sm_callV F X (met_X3_fits l) cls_3 (fun _ _ => cwV 0 F.1.2.2.2.2 (lw_V q982 q983 q984 q102 q985) rfl rfl rfl (by decide +kernel) ⟨by rw [hfr]; exact Nat.le_of_ble_eq_true rfl, by rw [hlc]; exact Nat.le_of_ble_eq_true rfl⟩) dX6_fits_4 (sm_ifeq F (tgt := 24) dX6_fits_7 (by decide) (sm_kil (hY 1)) (sm_aload_n F dX6_fits_10 rfl (sm_getR F cls_6 (k := 2) rfl (by decide) rfl q263 (fun _ h => h) dX6_fits_11 (sm_callV F X (met_X3_fits l) cls_3 (fun _ _ => cwV 0 F.1.2.2.2.2 (lw_V q982 q983 q984 q102 q985) rfl rfl rfl (by decide +kernel) ⟨by rw [hfr]; exact Nat.le_of_ble_eq_true rfl, by rw [hlc]; exact Nat.le_of_ble_eq_true rfl⟩) dX6_fits_14 (sm_ifeq F (tgt := 24) dX6_fits_17 (by decide) (sm_kil (hY 1)) (sm_iconst F dX6_fits_20 (by unfold inI; omega) (sm_goto F (tgt := 25) dX6_fits_21 (by decide) (sm_kil (hY 2))))) sx_none)))) sx_none)))
  | 1 =>
    show pm_le _ (pmV p l e R s m args below meth c G lo H0 1 pmcl pmft (vy_MQ below (pmQc G pmcl pmft lo H0 E) (pmXC G pmcl pmft pmXN lo H0 E) args s R.cells R.slots (fun q => lo ≤ q)) 24)
    exact (sm_iconst F dX6_fits_24 (by unfold inI; omega) (hY 2))
  | z + 2 =>
    show pm_le _ (pmV p l e R s m args below meth c G lo H0 1 pmcl pmft (vy_MQ below (pmQc G pmcl pmft lo H0 E) (pmXC G pmcl pmft pmXN lo H0 E) args s R.cells R.slots (fun q => lo ≤ q)) 25)
    exact (sm_zret F hr hlocks dX6_fits_25)
set_option maxHeartbeats 4000000 in
theorem met_X6_isWhole (l : Launch) : pmMet l G pmcl pmft pmkt pmNW pmFW XE pmXN lo H0 yX6_isWhole (ws_ yX6_isWhole cX6_isWhole 2 (some .boolean)) 1 20 2 P_X6_isWhole := by
  refine pmMet.of (by decide +kernel) (by decide) ?_
  intro p e s m args below meth c R E hfr hlc F X hr hlocks hexc hnm
  refine wp_sim (V := fun b => pmV p l e R s m args below meth c G lo H0 2 pmcl pmft (vy_MQ below (pmQc G pmcl pmft lo H0 E) (pmXC G pmcl pmft pmXN lo H0 E) args s R.cells R.slots (fun q => lo ≤ q)) ((fun b => match b with | 0 => 0 | 1 => 44 | 2 => 48 | _ => 49 : Nat → Nat) b)) ?_ 0
  intro b Y hY
  match b with
  | 0 =>
    show pm_le _ (pmV p l e R s m args below meth c G lo H0 2 pmcl pmft (vy_MQ below (pmQc G pmcl pmft lo H0 E) (pmXC G pmcl pmft pmXN lo H0 E) args s R.cells R.slots (fun q => lo ≤ q)) 0)
    exact (sm_aload_n F dX6_isWhole_0 rfl (sm_getR F cls_6 (k := 2) rfl (by decide) rfl q263 (fun _ h => h) dX6_isWhole_1 (sm_callV F X (met_X3_isOne l) cls_3 (fun _ _ => cwV 0 F.1.2.2.2.2 (lw_V q954 q955 q956 q102 q957) rfl rfl rfl (by decide +kernel) ⟨by rw [hfr]; exact Nat.le_of_ble_eq_true rfl, by rw [hlc]; exact Nat.le_of_ble_eq_true rfl⟩) dX6_isWhole_4 (sm_ifeq F (tgt := 48) dX6_isWhole_7 (by decide) (sm_kil (hY 2)) (sm_aload_n F dX6_isWhole_10 rfl (sm_getR F cls_6 (k := 1) rfl (by decide) rfl q259 (fun _ h => h) dX6_isWhole_11 (sm_getIN F cls_3 (k := 1) rfl (by decide) rfl (X.1.1 _ nw_q188).2 (fun _ h => h) dX6_isWhole_14 (sm_iconst F dX6_isWhole_17 (by unfold inI; omega) (sm_cmpgt F (tgt := 48) dX6_isWhole_18 (by decide) (sm_kil (hY 2)) (sm_aload_n F dX6_isWhole_21 rfl (sm_getR F cls_6 (k := 1) rfl (by decide) rfl q259 (fun _ h => h) dX6_isWhole_22 (sm_getIN F cls_3 (k := 1) rfl (by decide) rfl (X.1.1 _ nw_q188).2 (fun _ h => h) dX6_isWhole_25 (sm_ifeq F (tgt := 44) dX6_isWhole_28 (by decide) (sm_kil (hY 1)) (sm_aload_n F dX6_isWhole_31 rfl (sm_getR F cls_6 (k := 1) rfl (by decide) rfl q259 (fun _ h => h) dX6_isWhole_32 (sm_getRN F cls_3 (k := 0) rfl (by decide) rfl (X.1.1 _ nw_q182).2 (fun _ h => h) dX6_isWhole_35 (sm_iconst F dX6_isWhole_38 (by unfold inI; omega) (sm_iald F kt_100 dX6_isWhole_39 (sm_iload_n F dX6_isWhole_40 rfl (sm_cmpgt F (tgt := 48) dX6_isWhole_41 (by decide) (sm_kil (hY 2)) (sm_kil (hY 1))))))))))))))))))) sx_none)))
  | 1 =>
    show pm_le _ (pmV p l e R s m args below meth c G lo H0 2 pmcl pmft (vy_MQ below (pmQc G pmcl pmft lo H0 E) (pmXC G pmcl pmft pmXN lo H0 E) args s R.cells R.slots (fun q => lo ≤ q)) 44)
    exact (sm_iconst F dX6_isWhole_44 (by unfold inI; omega) (sm_goto F (tgt := 49) dX6_isWhole_45 (by decide) (hY 3)))
  | 2 =>
    show pm_le _ (pmV p l e R s m args below meth c G lo H0 2 pmcl pmft (vy_MQ below (pmQc G pmcl pmft lo H0 E) (pmXC G pmcl pmft pmXN lo H0 E) args s R.cells R.slots (fun q => lo ≤ q)) 48)
    exact (sm_iconst F dX6_isWhole_48 (by unfold inI; omega) (hY 3))
  | z + 3 =>
    show pm_le _ (pmV p l e R s m args below meth c G lo H0 2 pmcl pmft (vy_MQ below (pmQc G pmcl pmft lo H0 E) (pmXC G pmcl pmft pmXN lo H0 E) args s R.cells R.slots (fun q => lo ≤ q)) 49)
    exact (sm_zret F hr hlocks dX6_isWhole_49)
set_option maxHeartbeats 4000000 in
theorem met_X6_whole (l : Launch) : pmMet l G pmcl pmft pmkt pmNW pmFW XE pmXN lo H0 yX6_whole (ws_ yX6_whole cX6_whole 1 (some .int)) 0 0 1 P_X6_whole := by
  refine pmMet.of (by decide +kernel) (by decide) ?_
  intro p e s m args below meth c R E hfr hlc F X hr hlocks hexc hnm
  refine wp_sim (V := fun b => pmV p l e R s m args below meth c G lo H0 1 pmcl pmft (vy_MQ below (pmQc G pmcl pmft lo H0 E) (pmXC G pmcl pmft pmXN lo H0 E) args s R.cells R.slots (fun q => lo ≤ q)) ((fun b => match b with | 0 => 0 | _ => 31 : Nat → Nat) b)) ?_ 0
  intro b Y hY
  match b with
  | 0 =>
    show pm_le _ (pmV p l e R s m args below meth c G lo H0 1 pmcl pmft (vy_MQ below (pmQc G pmcl pmft lo H0 E) (pmXC G pmcl pmft pmXN lo H0 E) args s R.cells R.slots (fun q => lo ≤ q)) 0)
    exact (sm_aload_n F dX6_whole_0 rfl (sm_getR F cls_6 (k := 1) rfl (by decide) rfl q259 (fun _ h => h) dX6_whole_1 (sm_getIN F cls_3 (k := 1) rfl (by decide) rfl (X.1.1 _ nw_q188).2 (fun _ h => h) dX6_whole_4 (sm_ifne F (tgt := 14) dX6_whole_7 (by decide) (sm_aload_n F dX6_whole_14 rfl (sm_getR F cls_6 (k := 1) rfl (by decide) rfl q259 (fun _ h => h) dX6_whole_15 (sm_getIN F cls_3 (k := 2) rfl (by decide) rfl (X.1.1 _ nw_q193).2 (fun _ h => h) dX6_whole_18 (sm_aload_n F dX6_whole_21 rfl (sm_getR F cls_6 (k := 1) rfl (by decide) rfl q259 (fun _ h => h) dX6_whole_22 (sm_getRN F cls_3 (k := 0) rfl (by decide) rfl (X.1.1 _ nw_q182).2 (fun _ h => h) dX6_whole_25 (sm_iconst F dX6_whole_28 (by unfold inI; omega) (sm_iald F kt_100 dX6_whole_29 (sm_imul F dX6_whole_30 (sm_kil (hY 1))))))))))) (sm_iconst F dX6_whole_10 (by unfold inI; omega) (sm_goto F (tgt := 31) dX6_whole_11 (by decide) (sm_kil (hY 1))))))))
  | z + 1 =>
    show pm_le _ (pmV p l e R s m args below meth c G lo H0 1 pmcl pmft (vy_MQ below (pmQc G pmcl pmft lo H0 E) (pmXC G pmcl pmft pmXN lo H0 E) args s R.cells R.slots (fun q => lo ≤ q)) 31)
    exact (sm_iret F hr hlocks dX6_whole_31)
set_option maxHeartbeats 4000000 in
theorem met_X7_init (l : Launch) : pmMet l G pmcl pmft pmkt pmNW pmFW XE pmXN lo H0 yX7_init (ws_ yX7_init cX7_init 4 none) 2 41 3 P_X7_init := by
  refine pmMet.of (by decide +kernel) (by decide) ?_
  intro p e s m args below meth c R E hfr hlc F X hr hlocks hexc hnm
  refine wp_sim (V := fun b => pmV p l e R s m args below meth c G lo H0 4 pmcl pmft (vy_MQ below (pmQc G pmcl pmft lo H0 E) (pmXC G pmcl pmft pmXN lo H0 E) args s R.cells R.slots (fun q => lo ≤ q)) ((fun b => match b with | 0 => 0 | _ => 167 : Nat → Nat) b)) ?_ 0
  intro b Y hY
  match b with
  | 0 =>
    show pm_le _ (pmV p l e R s m args below meth c G lo H0 4 pmcl pmft (vy_MQ below (pmQc G pmcl pmft lo H0 E) (pmXC G pmcl pmft pmXN lo H0 E) args s R.cells R.slots (fun q => lo ≤ q)) 0)
    exact (sm_aload_n F dX7_init_0 rfl (sm_objinit F q320 q141 q142 (by rw [hfr]; exact Nat.le_of_ble_eq_true rfl) (by rw [hlc]; exact Nat.le_of_ble_eq_true rfl) dX7_init_1 (sm_aload_n F dX7_init_4 rfl (sm_sipush F dX7_init_5 ⟨by unfold inI; omega, by decide⟩ (sm_newa (atype := .int) (ty := .int) F rfl (Or.inl ⟨by decide, rfl⟩) (by decide) (by decide) (fun C h => by cases h) kt_100 q163 dX7_init_8 (sm_putRF F cls_7 (k := 2) rfl (by decide) rfl (Or.inr ⟨_, rfl⟩) rfl hnm rfl q326 (fun _ h => h) dX7_init_10 (sm_aload_n F dX7_init_13 rfl (sm_new F cls_3 q321 q173 q102 dX7_init_14 (sm_dup F dX7_init_17 (sm_sipush F dX7_init_18 ⟨by unfold inI; omega, by decide⟩ (sm_callI F X (met_X3_init l) (fun _ _ => cwI 1 F.1.2.2.2.2 (lw_meth q176) rfl rfl rfl (F.1.2.2.2.2 _ q102) (F.1.2.2.2.2 _ q322) (F.1.2.2.2.2 _ q175) rfl (by decide +kernel) ⟨by rw [hfr]; exact Nat.le_of_ble_eq_true rfl, by rw [hlc]; exact Nat.le_of_ble_eq_true rfl⟩) dX7_init_21 (sm_putRF F cls_7 (k := 3) rfl (by decide) rfl (Or.inl ⟨_, rfl⟩) rfl hnm rfl q327 (fun _ h => h) dX7_init_24 (sm_aload_n F dX7_init_27 rfl (sm_bipush F dX7_init_28 ⟨by unfold inI; omega, by decide⟩ (sm_newq F (by decide) kt_105 q321 (X.1.1 _ nw_q323).2 dX7_init_30 (sm_putRF F cls_7 (k := 4) rfl (by decide) rfl (Or.inr ⟨_, rfl⟩) rfl hnm rfl q328 (fun _ h => h) dX7_init_33 (sm_aload_n F dX7_init_36 rfl (sm_new F cls_3 q321 q173 q102 dX7_init_37 (sm_dup F dX7_init_40 (sm_sipush F dX7_init_41 ⟨by unfold inI; omega, by decide⟩ (sm_callI F X (met_X3_init l) (fun _ _ => cwI 1 F.1.2.2.2.2 (lw_meth q176) rfl rfl rfl (F.1.2.2.2.2 _ q102) (F.1.2.2.2.2 _ q322) (F.1.2.2.2.2 _ q175) rfl (by decide +kernel) ⟨by rw [hfr]; exact Nat.le_of_ble_eq_true rfl, by rw [hlc]; exact Nat.le_of_ble_eq_true rfl⟩) dX7_init_44 (sm_putRF F cls_7 (k := 5) rfl (by decide) rfl (Or.inl ⟨_, rfl⟩) rfl hnm rfl q329 (fun _ h => h) dX7_init_47 (sm_aload_n F dX7_init_50 rfl (sm_new F cls_3 q321 q173 q102 dX7_init_51 (sm_dup F dX7_init_54 (sm_sipush F dX7_init_55 ⟨by unfold inI; omega, by decide⟩ (sm_callI F X (met_X3_init l) (fun _ _ => cwI 1 F.1.2.2.2.2 (lw_meth q176) rfl rfl rfl (F.1.2.2.2.2 _ q102) (F.1.2.2.2.2 _ q322) (F.1.2.2.2.2 _ q175) rfl (by decide +kernel) ⟨by rw [hfr]; exact Nat.le_of_ble_eq_true rfl, by rw [hlc]; exact Nat.le_of_ble_eq_true rfl⟩) dX7_init_58 (sm_putRF F cls_7 (k := 6) rfl (by decide) rfl (Or.inl ⟨_, rfl⟩) rfl hnm rfl q330 (fun _ h => h) dX7_init_61 (sm_aload_n F dX7_init_64 rfl (sm_new F cls_3 q321 q173 q102 dX7_init_65 (sm_dup F dX7_init_68 (sm_sipush F dX7_init_69 ⟨by unfold inI; omega, by decide⟩ (sm_callI F X (met_X3_init l) (fun _ _ => cwI 1 F.1.2.2.2.2 (lw_meth q176) rfl rfl rfl (F.1.2.2.2.2 _ q102) (F.1.2.2.2.2 _ q322) (F.1.2.2.2.2 _ q175) rfl (by decide +kernel) ⟨by rw [hfr]; exact Nat.le_of_ble_eq_true rfl, by rw [hlc]; exact Nat.le_of_ble_eq_true rfl⟩) dX7_init_72 (sm_putRF F cls_7 (k := 7) rfl (by decide) rfl (Or.inl ⟨_, rfl⟩) rfl hnm rfl q331 (fun _ h => h) dX7_init_75 (sm_aload_n F dX7_init_78 rfl (sm_bipush F dX7_init_79 ⟨by unfold inI; omega, by decide⟩ (sm_newa (atype := .short) (ty := .short) F rfl (Or.inl ⟨by decide, rfl⟩) (by decide) (by decide) (fun C h => by cases h) kt_102 q165 dX7_init_81 (sm_putRF F cls_7 (k := 8) rfl (by decide) rfl (Or.inr ⟨_, rfl⟩) rfl hnm rfl q332 (fun _ h => h) dX7_init_83 (sm_aload_n F dX7_init_86 rfl (sm_sipush F dX7_init_87 ⟨by unfold inI; omega, by decide⟩ (sm_newa (atype := .int) (ty := .int) F rfl (Or.inl ⟨by decide, rfl⟩) (by decide) (by decide) (fun C h => by cases h) kt_100 q163 dX7_init_90 (sm_putRF F cls_7 (k := 9) rfl (by decide) rfl (Or.inr ⟨_, rfl⟩) rfl hnm rfl q333 (fun _ h => h) dX7_init_92 (sm_aload_n F dX7_init_95 rfl (sm_bipush F dX7_init_96 ⟨by unfold inI; omega, by decide⟩ (sm_newa (atype := .int) (ty := .int) F rfl (Or.inl ⟨by decide, rfl⟩) (by decide) (by decide) (fun C h => by cases h) kt_100 q163 dX7_init_98 (sm_putRF F cls_7 (k := 10) rfl (by decide) rfl (Or.inr ⟨_, rfl⟩) rfl hnm rfl q334 (fun _ h => h) dX7_init_100 (sm_aload_n F dX7_init_103 rfl (sm_bipush F dX7_init_104 ⟨by unfold inI; omega, by decide⟩ (sm_newa (atype := .int) (ty := .int) F rfl (Or.inl ⟨by decide, rfl⟩) (by decide) (by decide) (fun C h => by cases h) kt_100 q163 dX7_init_106 (sm_putRF F cls_7 (k := 11) rfl (by decide) rfl (Or.inr ⟨_, rfl⟩) rfl hnm rfl q335 (fun _ h => h) dX7_init_108 (sm_aload_n F dX7_init_111 rfl (sm_bipush F dX7_init_112 ⟨by unfold inI; omega, by decide⟩ (sm_newa (atype := .int) (ty := .int) F rfl (Or.inl ⟨by decide, rfl⟩) (by decide) (by decide) (fun C h => by cases h) kt_100 q163 dX7_init_114 (sm_putRF F cls_7 (k := 12) rfl (by decide) rfl (Or.inr ⟨_, rfl⟩) rfl hnm rfl q336 (fun _ h => h) dX7_init_116 (sm_aload_n F dX7_init_119 rfl (sm_bipush F dX7_init_120 ⟨by unfold inI; omega, by decide⟩ (sm_newa (atype := .int) (ty := .int) F rfl (Or.inl ⟨by decide, rfl⟩) (by decide) (by decide) (fun C h => by cases h) kt_100 q163 dX7_init_122 (sm_putRF F cls_7 (k := 13) rfl (by decide) rfl (Or.inr ⟨_, rfl⟩) rfl hnm rfl q337 (fun _ h => h) dX7_init_124 (sm_aload_n F dX7_init_127 rfl (sm_bipush F dX7_init_128 ⟨by unfold inI; omega, by decide⟩ (sm_newa (atype := .int) (ty := .int) F rfl (Or.inl ⟨by decide, rfl⟩) (by decide) (by decide) (fun C h => by cases h) kt_100 q163 dX7_init_130 (sm_putRF F cls_7 (k := 14) rfl (by decide) rfl (Or.inr ⟨_, rfl⟩) rfl hnm rfl q338 (fun _ h => h) dX7_init_132 (sm_aload_n F dX7_init_135 rfl (sm_bipush F dX7_init_136 ⟨by unfold inI; omega, by decide⟩ (sm_putI F cls_7 (k := 16) rfl (by decide) rfl rfl rfl q341 (fun _ h => h) dX7_init_138 (sm_aload_n F dX7_init_141 rfl (sm_new F cls_3 q321 q173 q102 dX7_init_142 (sm_dup F dX7_init_145 (sm_sipush F dX7_init_146 ⟨by unfold inI; omega, by decide⟩ (sm_callI F X (met_X3_init l) (fun _ _ => cwI 1 F.1.2.2.2.2 (lw_meth q176) rfl rfl rfl (F.1.2.2.2.2 _ q102) (F.1.2.2.2.2 _ q322) (F.1.2.2.2.2 _ q175) rfl (by decide +kernel) ⟨by rw [hfr]; exact Nat.le_of_ble_eq_true rfl, by rw [hlc]; exact Nat.le_of_ble_eq_true rfl⟩) dX7_init_149 (sm_putRF F cls_7 (k := 19) rfl (by decide) rfl (Or.inl ⟨_, rfl⟩) rfl hnm rfl q347 (fun _ h => h) dX7_init_152 (sm_aload_n F dX7_init_155 rfl (sm_aload_n F dX7_init_156 rfl (sm_putRF F cls_7 (k := 0) rfl (by decide) rfl (Or.inl ⟨_, rfl⟩) rfl hnm rfl q324 (fun _ h => h) dX7_init_157 (sm_aload_n F dX7_init_160 rfl (sm_aload_n F dX7_init_161 rfl (sm_putRF F cls_7 (k := 1) rfl (by decide) rfl (Or.inl ⟨_, rfl⟩) rfl hnm rfl q325 (fun _ h => h) dX7_init_162 (sm_iconst F dX7_init_165 (by unfold inI; omega) (sm_istore_n F dX7_init_166 rfl (by decide) (sm_kil (hY 1))))))))))) sx_none))))))))))))))))))))))))))))))))))))) sx_none)))))) sx_none)))))) sx_none)))))))))) sx_none)))))))))))
  | z + 1 =>
    show pm_le _ (pmV p l e R s m args below meth c G lo H0 4 pmcl pmft (vy_MQ below (pmQc G pmcl pmft lo H0 E) (pmXC G pmcl pmft pmXN lo H0 E) args s R.cells R.slots (fun q => lo ≤ q)) 167)
    exact (sm_iload_n F dX7_init_167 rfl (sm_bipush F dX7_init_168 ⟨by unfold inI; omega, by decide⟩ (sm_cmpge F (tgt := 194) dX7_init_170 (by decide) (sm_vret F hr hlocks dX7_init_194) (sm_aload_n F dX7_init_173 rfl (sm_getR F cls_7 (k := 4) rfl (by decide) rfl q328 (fun _ h => h) dX7_init_174 (sm_iload_n F dX7_init_177 rfl (sm_new F cls_3 q321 q173 q102 dX7_init_178 (sm_dup F dX7_init_181 (sm_bipush F dX7_init_182 ⟨by unfold inI; omega, by decide⟩ (sm_callI F X (met_X3_init l) (fun _ _ => cwI 1 F.1.2.2.2.2 (lw_meth q176) rfl rfl rfl (F.1.2.2.2.2 _ q102) (F.1.2.2.2.2 _ q322) (F.1.2.2.2.2 _ q175) rfl (by decide +kernel) ⟨by rw [hfr]; exact Nat.le_of_ble_eq_true rfl, by rw [hlc]; exact Nat.le_of_ble_eq_true rfl⟩) dX7_init_184 (sm_stR F cls_3 (by decide) kt_105 dX7_init_187 (sm_iinc F dX7_init_188 (by decide) (sm_goto F (tgt := 167) dX7_init_191 (by decide) (hY 1)))) sx_none))))))))))
set_option maxHeartbeats 4000000 in
theorem met_X7_firstColumn (l : Launch) : pmMet l G pmcl pmft pmkt pmNW pmFW XE pmXN lo H0 yX7_firstColumn (ws_ yX7_firstColumn cX7_firstColumn 2 (some .int)) 0 0 1 P_X7_firstColumn := by
  refine pmMet.of (by decide +kernel) (by decide) ?_
  intro p e s m args below meth c R E hfr hlc F X hr hlocks hexc hnm
  refine wp_sim (V := fun b => pmV p l e R s m args below meth c G lo H0 2 pmcl pmft (vy_MQ below (pmQc G pmcl pmft lo H0 E) (pmXC G pmcl pmft pmXN lo H0 E) args s R.cells R.slots (fun q => lo ≤ q)) ((fun b => match b with | 0 => 0 | 1 => 2 | _ => 26 : Nat → Nat) b)) ?_ 0
  intro b Y hY
  match b with
  | 0 =>
    show pm_le _ (pmV p l e R s m args below meth c G lo H0 2 pmcl pmft (vy_MQ below (pmQc G pmcl pmft lo H0 E) (pmXC G pmcl pmft pmXN lo H0 E) args s R.cells R.slots (fun q => lo ≤ q)) 0)
    exact (sm_iconst F dX7_firstColumn_0 (by unfold inI; omega) (sm_istore_n F dX7_firstColumn_1 rfl (by decide) (hY 1)))
  | 1 =>
    show pm_le _ (pmV p l e R s m args below meth c G lo H0 2 pmcl pmft (vy_MQ below (pmQc G pmcl pmft lo H0 E) (pmXC G pmcl pmft pmXN lo H0 E) args s R.cells R.slots (fun q => lo ≤ q)) 2)
    exact (sm_iload_n F dX7_firstColumn_2 rfl (sm_bipush F dX7_firstColumn_3 ⟨by unfold inI; omega, by decide⟩ (sm_cmpge F (tgt := 26) dX7_firstColumn_5 (by decide) (sm_kil (hY 2)) (sm_aload_n F dX7_firstColumn_8 rfl (sm_getR F cls_7 (k := 4) rfl (by decide) rfl q328 (fun _ h => h) dX7_firstColumn_9 (sm_iload_n F dX7_firstColumn_12 rfl (sm_aald F (by decide) kt_105 rfl dX7_firstColumn_13 (sm_getIN F cls_3 (k := 2) rfl (by decide) rfl (X.1.1 _ nw_q192).2 (fun _ h => h) dX7_firstColumn_14 (sm_ifne F (tgt := 26) dX7_firstColumn_17 (by decide) (sm_kil (hY 2)) (sm_iinc F dX7_firstColumn_20 (by decide) (sm_goto F (tgt := 2) dX7_firstColumn_23 (by decide) (hY 1))))))))))))
  | z + 2 =>
    show pm_le _ (pmV p l e R s m args below meth c G lo H0 2 pmcl pmft (vy_MQ below (pmQc G pmcl pmft lo H0 E) (pmXC G pmcl pmft pmXN lo H0 E) args s R.cells R.slots (fun q => lo ≤ q)) 26)
    exact (sm_iload_n F dX7_firstColumn_26 rfl (sm_iret F hr hlocks dX7_firstColumn_27))
set_option maxHeartbeats 4000000 in
theorem met_X7_save (l : Launch) : pmMet l G pmcl pmft pmkt pmNW pmFW XE pmXN lo H0 yX7_save (ws_ yX7_save cX7_save 6 none) 0 0 4 P_X7_save := by
  refine pmMet.of (by decide +kernel) (by decide) ?_
  intro p e s m args below meth c R E hfr hlc F X hr hlocks hexc hnm
  refine wp_sim (V := fun b => pmV p l e R s m args below meth c G lo H0 6 pmcl pmft (vy_MQ below (pmQc G pmcl pmft lo H0 E) (pmXC G pmcl pmft pmXN lo H0 E) args s R.cells R.slots (fun q => lo ≤ q)) ((fun b => match b with | 0 => 0 | _ => 30 : Nat → Nat) b)) ?_ 0
  intro b Y hY
  match b with
  | 0 =>
    show pm_le _ (pmV p l e R s m args below meth c G lo H0 6 pmcl pmft (vy_MQ below (pmQc G pmcl pmft lo H0 E) (pmXC G pmcl pmft pmXN lo H0 E) args s R.cells R.slots (fun q => lo ≤ q)) 0)
    exact (sm_bipush F dX7_save_0 ⟨by unfold inI; omega, by decide⟩ (sm_bipush F dX7_save_2 ⟨by unfold inI; omega, by decide⟩ (sm_iload_n F dX7_save_4 rfl (sm_imul F dX7_save_5 (sm_iload_n F dX7_save_6 rfl (sm_iadd F dX7_save_7 (sm_imul F dX7_save_8 (sm_istore F dX7_save_9 (by decide) (sm_aload_n F dX7_save_11 rfl (sm_getR F cls_7 (k := 2) rfl (by decide) rfl q326 (fun _ h => h) dX7_save_12 (sm_iload F dX7_save_15 (sm_aload_n F dX7_save_17 rfl (sm_getIN F cls_3 (k := 2) rfl (by decide) rfl (X.1.1 _ nw_q192).2 (fun _ h => h) dX7_save_18 (sm_aload_n F dX7_save_21 rfl (sm_getIN F cls_3 (k := 1) rfl (by decide) rfl (X.1.1 _ nw_q186).2 (fun _ h => h) dX7_save_22 (sm_imul F dX7_save_25 (sm_iast F kt_100 dX7_save_26 (sm_iconst F dX7_save_27 (by unfold inI; omega) (sm_istore F dX7_save_28 (by decide) (sm_kil (hY 1)))))))))))))))))))))
  | z + 1 =>
    show pm_le _ (pmV p l e R s m args below meth c G lo H0 6 pmcl pmft (vy_MQ below (pmQc G pmcl pmft lo H0 E) (pmXC G pmcl pmft pmXN lo H0 E) args s R.cells R.slots (fun q => lo ≤ q)) 30)
    exact (sm_iload F dX7_save_30 (sm_aload_n F dX7_save_32 rfl (sm_getIN F cls_3 (k := 1) rfl (by decide) rfl (X.1.1 _ nw_q186).2 (fun _ h => h) dX7_save_33 (sm_cmpge F (tgt := 64) dX7_save_36 (by decide) (sm_vret F hr hlocks dX7_save_64) (sm_aload_n F dX7_save_39 rfl (sm_getR F cls_7 (k := 2) rfl (by decide) rfl q326 (fun _ h => h) dX7_save_40 (sm_iload F dX7_save_43 (sm_iconst F dX7_save_45 (by unfold inI; omega) (sm_iadd F dX7_save_46 (sm_iload F dX7_save_47 (sm_iadd F dX7_save_49 (sm_aload_n F dX7_save_50 rfl (sm_getRN F cls_3 (k := 0) rfl (by decide) rfl (X.1.1 _ nw_q180).2 (fun _ h => h) dX7_save_51 (sm_iload F dX7_save_54 (sm_iald F kt_100 dX7_save_56 (sm_iast F kt_100 dX7_save_57 (sm_iinc F dX7_save_58 (by decide) (sm_goto F (tgt := 30) dX7_save_61 (by decide) (hY 1)))))))))))))))))))
set_option maxHeartbeats 4000000 in
theorem met_X7_leadOf (l : Launch) : pmMet l G pmcl pmft pmkt pmNW pmFW XE pmXN lo H0 yX7_leadOf (ws_ yX7_leadOf cX7_leadOf 2 (some .int)) 0 0 2 P_X7_leadOf := by
  refine pmMet.of (by decide +kernel) (by decide) ?_
  intro p e s m args below meth c R E hfr hlc F X hr hlocks hexc hnm
  refine wp_sim (V := fun b => pmV p l e R s m args below meth c G lo H0 2 pmcl pmft (vy_MQ below (pmQc G pmcl pmft lo H0 E) (pmXC G pmcl pmft pmXN lo H0 E) args s R.cells R.slots (fun q => lo ≤ q)) ((fun b => match b with | _ => 0 : Nat → Nat) b)) ?_ 0
  intro b Y hY
  match b with
  | _ =>
    show pm_le _ (pmV p l e R s m args below meth c G lo H0 2 pmcl pmft (vy_MQ below (pmQc G pmcl pmft lo H0 E) (pmXC G pmcl pmft pmXN lo H0 E) args s R.cells R.slots (fun q => lo ≤ q)) 0)
    exact (sm_aload_n F dX7_leadOf_0 rfl (sm_getR F cls_7 (k := 8) rfl (by decide) rfl q332 (fun _ h => h) dX7_leadOf_1 (sm_aload_n F dX7_leadOf_4 rfl (sm_getR F cls_7 (k := 10) rfl (by decide) rfl q334 (fun _ h => h) dX7_leadOf_5 (sm_aload_n F dX7_leadOf_8 rfl (sm_getR F cls_7 (k := 11) rfl (by decide) rfl q335 (fun _ h => h) dX7_leadOf_9 (sm_iload_n F dX7_leadOf_12 rfl (sm_iald F kt_100 dX7_leadOf_13 (sm_iald F kt_100 dX7_leadOf_14 (sm_sald F kt_102 dX7_leadOf_15 (sm_iret F hr hlocks dX7_leadOf_16)))))))))))
set_option maxHeartbeats 4000000 in
theorem met_X7_isMinimal (l : Launch) : pmMet l G pmcl pmft pmkt pmNW pmFW XE pmXN lo H0 yX7_isMinimal (ws_ yX7_isMinimal cX7_isMinimal 4 (some .boolean)) 1 22 2 P_X7_isMinimal := by
  refine pmMet.of (by decide +kernel) (by decide) ?_
  intro p e s m args below meth c R E hfr hlc F X hr hlocks hexc hnm
  refine wp_sim (V := fun b => pmV p l e R s m args below meth c G lo H0 4 pmcl pmft (vy_MQ below (pmQc G pmcl pmft lo H0 E) (pmXC G pmcl pmft pmXN lo H0 E) args s R.cells R.slots (fun q => lo ≤ q)) ((fun b => match b with | 0 => 0 | 1 => 4 | 2 => 41 | 3 => 45 | _ => 46 : Nat → Nat) b)) ?_ 0
  intro b Y hY
  match b with
  | 0 =>
    show pm_le _ (pmV p l e R s m args below meth c G lo H0 4 pmcl pmft (vy_MQ below (pmQc G pmcl pmft lo H0 E) (pmXC G pmcl pmft pmXN lo H0 E) args s R.cells R.slots (fun q => lo ≤ q)) 0)
    exact (sm_iconst F dX7_isMinimal_0 (by unfold inI; omega) (sm_istore_n F dX7_isMinimal_1 rfl (by decide) (sm_iconst F dX7_isMinimal_2 (by unfold inI; omega) (sm_istore_n F dX7_isMinimal_3 rfl (by decide) (hY 1)))))
  | 1 =>
    show pm_le _ (pmV p l e R s m args below meth c G lo H0 4 pmcl pmft (vy_MQ below (pmQc G pmcl pmft lo H0 E) (pmXC G pmcl pmft pmXN lo H0 E) args s R.cells R.slots (fun q => lo ≤ q)) 4)
    exact (sm_iload_n F dX7_isMinimal_4 rfl (sm_aload_n F dX7_isMinimal_5 rfl (sm_getI F cls_7 (k := 15) rfl (by decide) rfl q339 (fun _ h => h) dX7_isMinimal_6 (sm_cmpge F (tgt := 53) dX7_isMinimal_9 (by decide) (sm_iload_n F dX7_isMinimal_53 rfl (sm_zret F hr hlocks dX7_isMinimal_54)) (sm_iload_n F dX7_isMinimal_12 rfl (sm_ifeq F (tgt := 45) dX7_isMinimal_13 (by decide) (sm_kil (hY 3)) (sm_iload_n F dX7_isMinimal_16 rfl (sm_iload_n F dX7_isMinimal_17 rfl (sm_cmpeq F (tgt := 41) dX7_isMinimal_18 (by decide) (sm_kil (hY 2)) (sm_aload_n F dX7_isMinimal_21 rfl (sm_getR F cls_7 (k := 0) rfl (by decide) rfl q324 (fun _ h => h) dX7_isMinimal_22 (sm_aload_n F dX7_isMinimal_25 rfl (sm_iload_n F dX7_isMinimal_26 rfl (sm_callV F X (met_X7_leadOf l) cls_7 (fun _ _ => cwV 1 F.1.2.2.2.2 (lw_V q1449 q1438 q1439 q106 q1440) rfl rfl rfl (by decide +kernel) ⟨by rw [hfr]; exact Nat.le_of_ble_eq_true rfl, by rw [hlc]; exact Nat.le_of_ble_eq_true rfl⟩) dX7_isMinimal_27 (sm_aload_n F dX7_isMinimal_30 rfl (sm_iload_n F dX7_isMinimal_31 rfl (sm_callV F X (met_X7_leadOf l) cls_7 (fun _ _ => cwV 1 F.1.2.2.2.2 (lw_V q1449 q1438 q1439 q106 q1440) rfl rfl rfl (by decide +kernel) ⟨by rw [hfr]; exact Nat.le_of_ble_eq_true rfl, by rw [hlc]; exact Nat.le_of_ble_eq_true rfl⟩) dX7_isMinimal_32 (sm_callV F X (met_X1_divides l) cls_1 (fun _ _ => cwV 2 F.1.2.2.2.2 (lw_V q1450 q1318 q1319 q100 q1320) rfl rfl rfl (by decide +kernel) ⟨by rw [hfr]; exact Nat.le_of_ble_eq_true rfl, by rw [hlc]; exact Nat.le_of_ble_eq_true rfl⟩) dX7_isMinimal_35 (sm_ifne F (tgt := 45) dX7_isMinimal_38 (by decide) (sm_kil (hY 3)) (sm_kil (hY 2))) sx_none) sx_none))) sx_none))))))))))))))
  | 2 =>
    show pm_le _ (pmV p l e R s m args below meth c G lo H0 4 pmcl pmft (vy_MQ below (pmQc G pmcl pmft lo H0 E) (pmXC G pmcl pmft pmXN lo H0 E) args s R.cells R.slots (fun q => lo ≤ q)) 41)
    exact (sm_iconst F dX7_isMinimal_41 (by unfold inI; omega) (sm_goto F (tgt := 46) dX7_isMinimal_42 (by decide) (hY 4)))
  | 3 =>
    show pm_le _ (pmV p l e R s m args below meth c G lo H0 4 pmcl pmft (vy_MQ below (pmQc G pmcl pmft lo H0 E) (pmXC G pmcl pmft pmXN lo H0 E) args s R.cells R.slots (fun q => lo ≤ q)) 45)
    exact (sm_iconst F dX7_isMinimal_45 (by unfold inI; omega) (hY 4))
  | z + 4 =>
    show pm_le _ (pmV p l e R s m args below meth c G lo H0 4 pmcl pmft (vy_MQ below (pmQc G pmcl pmft lo H0 E) (pmXC G pmcl pmft pmXN lo H0 E) args s R.cells R.slots (fun q => lo ≤ q)) 46)
    exact (sm_istore_n F dX7_isMinimal_46 rfl (by decide) (sm_iinc F dX7_isMinimal_47 (by decide) (sm_goto F (tgt := 4) dX7_isMinimal_50 (by decide) (hY 1))))
set_option maxHeartbeats 4000000 in
theorem met_X7_isFree (l : Launch) : pmMet l G pmcl pmft pmkt pmNW pmFW XE pmXN lo H0 yX7_isFree (ws_ yX7_isFree cX7_isFree 4 (some .boolean)) 1 22 2 P_X7_isFree := by
  refine pmMet.of (by decide +kernel) (by decide) ?_
  intro p e s m args below meth c R E hfr hlc F X hr hlocks hexc hnm
  refine wp_sim (V := fun b => pmV p l e R s m args below meth c G lo H0 4 pmcl pmft (vy_MQ below (pmQc G pmcl pmft lo H0 E) (pmXC G pmcl pmft pmXN lo H0 E) args s R.cells R.slots (fun q => lo ≤ q)) ((fun b => match b with | 0 => 0 | 1 => 4 | 2 => 36 | _ => 37 : Nat → Nat) b)) ?_ 0
  intro b Y hY
  match b with
  | 0 =>
    show pm_le _ (pmV p l e R s m args below meth c G lo H0 4 pmcl pmft (vy_MQ below (pmQc G pmcl pmft lo H0 E) (pmXC G pmcl pmft pmXN lo H0 E) args s R.cells R.slots (fun q => lo ≤ q)) 0)
    exact (sm_iconst F dX7_isFree_0 (by unfold inI; omega) (sm_istore_n F dX7_isFree_1 rfl (by decide) (sm_iconst F dX7_isFree_2 (by unfold inI; omega) (sm_istore_n F dX7_isFree_3 rfl (by decide) (hY 1)))))
  | 1 =>
    show pm_le _ (pmV p l e R s m args below meth c G lo H0 4 pmcl pmft (vy_MQ below (pmQc G pmcl pmft lo H0 E) (pmXC G pmcl pmft pmXN lo H0 E) args s R.cells R.slots (fun q => lo ≤ q)) 4)
    exact (sm_iload_n F dX7_isFree_4 rfl (sm_aload_n F dX7_isFree_5 rfl (sm_getI F cls_7 (k := 15) rfl (by decide) rfl q339 (fun _ h => h) dX7_isFree_6 (sm_cmpge F (tgt := 44) dX7_isFree_9 (by decide) (sm_iload_n F dX7_isFree_44 rfl (sm_zret F hr hlocks dX7_isFree_45)) (sm_iload_n F dX7_isFree_12 rfl (sm_ifeq F (tgt := 36) dX7_isFree_13 (by decide) (sm_kil (hY 2)) (sm_aload_n F dX7_isFree_16 rfl (sm_getR F cls_7 (k := 0) rfl (by decide) rfl q324 (fun _ h => h) dX7_isFree_17 (sm_aload_n F dX7_isFree_20 rfl (sm_iload_n F dX7_isFree_21 rfl (sm_callV F X (met_X7_leadOf l) cls_7 (fun _ _ => cwV 1 F.1.2.2.2.2 (lw_V q1449 q1438 q1439 q106 q1440) rfl rfl rfl (by decide +kernel) ⟨by rw [hfr]; exact Nat.le_of_ble_eq_true rfl, by rw [hlc]; exact Nat.le_of_ble_eq_true rfl⟩) dX7_isFree_22 (sm_iload_n F dX7_isFree_25 rfl (sm_callV F X (met_X1_divides l) cls_1 (fun _ _ => cwV 2 F.1.2.2.2.2 (lw_V q1450 q1318 q1319 q100 q1320) rfl rfl rfl (by decide +kernel) ⟨by rw [hfr]; exact Nat.le_of_ble_eq_true rfl, by rw [hlc]; exact Nat.le_of_ble_eq_true rfl⟩) dX7_isFree_26 (sm_ifne F (tgt := 36) dX7_isFree_29 (by decide) (sm_kil (hY 2)) (sm_iconst F dX7_isFree_32 (by unfold inI; omega) (sm_goto F (tgt := 37) dX7_isFree_33 (by decide) (sm_kil (hY 3))))) sx_none)) sx_none)))))))))))
  | 2 =>
    show pm_le _ (pmV p l e R s m args below meth c G lo H0 4 pmcl pmft (vy_MQ below (pmQc G pmcl pmft lo H0 E) (pmXC G pmcl pmft pmXN lo H0 E) args s R.cells R.slots (fun q => lo ≤ q)) 36)
    exact (sm_iconst F dX7_isFree_36 (by unfold inI; omega) (hY 3))
  | z + 3 =>
    show pm_le _ (pmV p l e R s m args below meth c G lo H0 4 pmcl pmft (vy_MQ below (pmQc G pmcl pmft lo H0 E) (pmXC G pmcl pmft pmXN lo H0 E) args s R.cells R.slots (fun q => lo ≤ q)) 37)
    exact (sm_istore_n F dX7_isFree_37 rfl (by decide) (sm_iinc F dX7_isFree_38 (by decide) (sm_goto F (tgt := 4) dX7_isFree_41 (by decide) (hY 1))))
set_option maxHeartbeats 4000000 in
theorem met_X8_put (l : Launch) : pmMet l G pmcl pmft pmkt pmNW pmFW XE pmXN lo H0 yX8_put (ws_ yX8_put cX8_put 4 none) 1 24 3 P_X8_put := by
  refine pmMet.of (by decide +kernel) (by decide) ?_
  intro p e s m args below meth c R E hfr hlc F X hr hlocks hexc hnm
  refine wp_sim (V := fun b => pmV p l e R s m args below meth c G lo H0 4 pmcl pmft (vy_MQ below (pmQc G pmcl pmft lo H0 E) (pmXC G pmcl pmft pmXN lo H0 E) args s R.cells R.slots (fun q => lo ≤ q)) ((fun b => match b with | 0 => 0 | _ => 2 : Nat → Nat) b)) ?_ 0
  intro b Y hY
  match b with
  | 0 =>
    show pm_le _ (pmV p l e R s m args below meth c G lo H0 4 pmcl pmft (vy_MQ below (pmQc G pmcl pmft lo H0 E) (pmXC G pmcl pmft pmXN lo H0 E) args s R.cells R.slots (fun q => lo ≤ q)) 0)
    exact (sm_iconst F dX8_put_0 (by unfold inI; omega) (sm_istore_n F dX8_put_1 rfl (by decide) (hY 1)))
  | z + 1 =>
    show pm_le _ (pmV p l e R s m args below meth c G lo H0 4 pmcl pmft (vy_MQ below (pmQc G pmcl pmft lo H0 E) (pmXC G pmcl pmft pmXN lo H0 E) args s R.cells R.slots (fun q => lo ≤ q)) 2)
    exact (sm_iload_n F dX8_put_2 rfl (sm_iload_n F dX8_put_3 rfl (sm_cmpgt F (tgt := 28) dX8_put_4 (by decide) (sm_aload_n F dX8_put_28 rfl (sm_getR F cls_8 (k := 2) rfl (by decide) rfl q402 (fun _ h => h) dX8_put_29 (sm_iconst F dX8_put_32 (by unfold inI; omega) (sm_iload_n F dX8_put_33 rfl (sm_iast F kt_100 dX8_put_34 (sm_vret F hr hlocks dX8_put_35)))))) (sm_aload_n F dX8_put_7 rfl (sm_getR F cls_8 (k := 1) rfl (by decide) rfl q401 (fun _ h => h) dX8_put_8 (sm_iconst F dX8_put_11 (by unfold inI; omega) (sm_aald F (by decide) kt_106 rfl dX8_put_12 (sm_iload_n F dX8_put_13 rfl (sm_aald F (by decide) kt_105 rfl dX8_put_14 (sm_aload_n F dX8_put_15 rfl (sm_iload_n F dX8_put_16 rfl (sm_iald F kt_100 dX8_put_17 (sm_i2l F dX8_put_18 (sm_callV F X (met_X3_set l) cls_3 (fun _ _ => cwV 1 F.1.2.2.2.2 (lw_V q1513 q254 q255 q102 q256) rfl rfl rfl (by decide +kernel) ⟨by rw [hfr]; exact Nat.le_of_ble_eq_true rfl, by rw [hlc]; exact Nat.le_of_ble_eq_true rfl⟩) dX8_put_19 (sm_iinc F dX8_put_22 (by decide) (sm_goto F (tgt := 2) dX8_put_25 (by decide) (hY 1))) sx_none))))))))))))))
set_option maxHeartbeats 4000000 in
theorem met_X8_only (l : Launch) : pmMet l G pmcl pmft pmkt pmNW pmFW XE pmXN lo H0 yX8_only (ws_ yX8_only cX8_only 3 none) 2 47 3 P_X8_only := by
  refine pmMet.of (by decide +kernel) (by decide) ?_
  intro p e s m args below meth c R E hfr hlc F X hr hlocks hexc hnm
  refine wp_sim (V := fun b => pmV p l e R s m args below meth c G lo H0 3 pmcl pmft (vy_MQ below (pmQc G pmcl pmft lo H0 E) (pmXC G pmcl pmft pmXN lo H0 E) args s R.cells R.slots (fun q => lo ≤ q)) ((fun b => match b with | _ => 0 : Nat → Nat) b)) ?_ 0
  intro b Y hY
  match b with
  | _ =>
    show pm_le _ (pmV p l e R s m args below meth c G lo H0 3 pmcl pmft (vy_MQ below (pmQc G pmcl pmft lo H0 E) (pmXC G pmcl pmft pmXN lo H0 E) args s R.cells R.slots (fun q => lo ≤ q)) 0)
    exact (sm_aload_n F dX8_only_0 rfl (sm_aload_n F dX8_only_1 rfl (sm_iload_n F dX8_only_2 rfl (sm_callV F X (met_X8_put l) cls_8 (fun _ _ => cwV 2 F.1.2.2.2.2 (lw_V q1509 q1511 qs41 q107 q1512) rfl rfl rfl (by decide +kernel) ⟨by rw [hfr]; exact Nat.le_of_ble_eq_true rfl, by rw [hlc]; exact Nat.le_of_ble_eq_true rfl⟩) dX8_only_3 (sm_aload_n F dX8_only_6 rfl (sm_iconst F dX8_only_7 (by unfold inI; omega) (sm_putI F cls_8 (k := 8) rfl (by decide) rfl rfl rfl q408 (fun _ h => h) dX8_only_8 (sm_vret F hr hlocks dX8_only_11)))) sx_none))))
set_option maxHeartbeats 4000000 in
theorem met_X9_kind (l : Launch) : pmMet l G pmcl pmft pmkt pmNW pmFW XE pmXN lo H0 yX9_kind (ws_ yX9_kind cX9_kind 1 (some .int)) 0 0 1 P_X9_kind := by
  refine pmMet.of (by decide +kernel) (by decide) ?_
  intro p e s m args below meth c R E hfr hlc F X hr hlocks hexc hnm
  refine wp_sim (V := fun b => pmV p l e R s m args below meth c G lo H0 1 pmcl pmft (vy_MQ below (pmQc G pmcl pmft lo H0 E) (pmXC G pmcl pmft pmXN lo H0 E) args s R.cells R.slots (fun q => lo ≤ q)) ((fun b => match b with | _ => 0 : Nat → Nat) b)) ?_ 0
  intro b Y hY
  match b with
  | _ =>
    show pm_le _ (pmV p l e R s m args below meth c G lo H0 1 pmcl pmft (vy_MQ below (pmQc G pmcl pmft lo H0 E) (pmXC G pmcl pmft pmXN lo H0 E) args s R.cells R.slots (fun q => lo ≤ q)) 0)
    exact (sm_iconst F dX9_kind_0 (by unfold inI; omega) (sm_iret F hr hlocks dX9_kind_1))
set_option maxHeartbeats 4000000 in
theorem met_X13_init (l : Launch) : pmMet l G pmcl pmft pmkt pmNW pmFW XE pmXN lo H0 yX13_init (ws_ yX13_init cX13_init 1 none) 2 41 1 P_X13_init := by
  refine pmMet.of (by decide +kernel) (by decide) ?_
  intro p e s m args below meth c R E hfr hlc F X hr hlocks hexc hnm
  refine wp_sim (V := fun b => pmV p l e R s m args below meth c G lo H0 1 pmcl pmft (vy_MQ below (pmQc G pmcl pmft lo H0 E) (pmXC G pmcl pmft pmXN lo H0 E) args s R.cells R.slots (fun q => lo ≤ q)) ((fun b => match b with | _ => 0 : Nat → Nat) b)) ?_ 0
  intro b Y hY
  match b with
  | _ =>
    show pm_le _ (pmV p l e R s m args below meth c G lo H0 1 pmcl pmft (vy_MQ below (pmQc G pmcl pmft lo H0 E) (pmXC G pmcl pmft pmXN lo H0 E) args s R.cells R.slots (fun q => lo ≤ q)) 0)
    exact (sm_aload_n F dX13_init_0 rfl (sm_objinit F q485 q141 q142 (by rw [hfr]; exact Nat.le_of_ble_eq_true rfl) (by rw [hlc]; exact Nat.le_of_ble_eq_true rfl) dX13_init_1 (sm_aload_n F dX13_init_4 rfl (sm_bipush F dX13_init_5 ⟨by unfold inI; omega, by decide⟩ (sm_newa (atype := .int) (ty := .int) F rfl (Or.inl ⟨by decide, rfl⟩) (by decide) (by decide) (fun C h => by cases h) kt_100 q163 dX13_init_7 (sm_putRF F cls_13 (k := 0) rfl (by decide) rfl (Or.inr ⟨_, rfl⟩) rfl hnm rfl q488 (fun _ h => h) dX13_init_9 (sm_aload_n F dX13_init_12 rfl (sm_new F cls_3 q486 q173 q102 dX13_init_13 (sm_dup F dX13_init_16 (sm_bipush F dX13_init_17 ⟨by unfold inI; omega, by decide⟩ (sm_callI F X (met_X3_init l) (fun _ _ => cwI 1 F.1.2.2.2.2 (lw_meth q176) rfl rfl rfl (F.1.2.2.2.2 _ q102) (F.1.2.2.2.2 _ q487) (F.1.2.2.2.2 _ q175) rfl (by decide +kernel) ⟨by rw [hfr]; exact Nat.le_of_ble_eq_true rfl, by rw [hlc]; exact Nat.le_of_ble_eq_true rfl⟩) dX13_init_19 (sm_putRF F cls_13 (k := 4) rfl (by decide) rfl (Or.inl ⟨_, rfl⟩) rfl hnm rfl q496 (fun _ h => h) dX13_init_22 (sm_vret F hr hlocks dX13_init_25)) sx_none)))))))))))
set_option maxHeartbeats 4000000 in
theorem met_X13_kind (l : Launch) : pmMet l G pmcl pmft pmkt pmNW pmFW XE pmXN lo H0 yX13_kind (ws_ yX13_kind cX13_kind 1 (some .int)) 0 0 1 P_X13_kind := by
  refine pmMet.of (by decide +kernel) (by decide) ?_
  intro p e s m args below meth c R E hfr hlc F X hr hlocks hexc hnm
  refine wp_sim (V := fun b => pmV p l e R s m args below meth c G lo H0 1 pmcl pmft (vy_MQ below (pmQc G pmcl pmft lo H0 E) (pmXC G pmcl pmft pmXN lo H0 E) args s R.cells R.slots (fun q => lo ≤ q)) ((fun b => match b with | _ => 0 : Nat → Nat) b)) ?_ 0
  intro b Y hY
  match b with
  | _ =>
    show pm_le _ (pmV p l e R s m args below meth c G lo H0 1 pmcl pmft (vy_MQ below (pmQc G pmcl pmft lo H0 E) (pmXC G pmcl pmft pmXN lo H0 E) args s R.cells R.slots (fun q => lo ≤ q)) 0)
    exact (sm_iconst F dX13_kind_0 (by unfold inI; omega) (sm_iret F hr hlocks dX13_kind_1))
set_option maxHeartbeats 4000000 in
theorem met_X13_half (l : Launch) : pmMet l G pmcl pmft pmkt pmNW pmFW XE pmXN lo H0 yX13_half (ws_ yX13_half cX13_half 2 none) 1 24 2 P_X13_half := by
  refine pmMet.of (by decide +kernel) (by decide) ?_
  intro p e s m args below meth c R E hfr hlc F X hr hlocks hexc hnm
  refine wp_sim (V := fun b => pmV p l e R s m args below meth c G lo H0 2 pmcl pmft (vy_MQ below (pmQc G pmcl pmft lo H0 E) (pmXC G pmcl pmft pmXN lo H0 E) args s R.cells R.slots (fun q => lo ≤ q)) ((fun b => match b with | _ => 0 : Nat → Nat) b)) ?_ 0
  intro b Y hY
  match b with
  | _ =>
    show pm_le _ (pmV p l e R s m args below meth c G lo H0 2 pmcl pmft (vy_MQ below (pmQc G pmcl pmft lo H0 E) (pmXC G pmcl pmft pmXN lo H0 E) args s R.cells R.slots (fun q => lo ≤ q)) 0)
    exact (sm_aload_n F dX13_half_0 rfl (sm_dup F dX13_half_1 (sm_getI F cls_13 (k := 2) rfl (by decide) rfl q492 (fun _ h => h) dX13_half_2 (sm_iconst F dX13_half_5 (by unfold inI; omega) (sm_iadd F dX13_half_6 (sm_putI F cls_13 (k := 2) rfl (by decide) rfl rfl rfl q492 (fun _ h => h) dX13_half_7 (sm_aload_n F dX13_half_10 rfl (sm_getR F cls_13 (k := 4) rfl (by decide) rfl q496 (fun _ h => h) dX13_half_11 (sm_iload_n F dX13_half_14 rfl (sm_callV F X (met_X3_twice l) cls_3 (fun _ _ => cwV 1 F.1.2.2.2.2 (lw_V q1272 q1273 q1274 q102 q1275) rfl rfl rfl (by decide +kernel) ⟨by rw [hfr]; exact Nat.le_of_ble_eq_true rfl, by rw [hlc]; exact Nat.le_of_ble_eq_true rfl⟩) dX13_half_15 (sm_vret F hr hlocks dX13_half_18) sx_none))))))))))
set_option maxHeartbeats 4000000 in
theorem met_X13_be (l : Launch) : pmMet l G pmcl pmft pmkt pmNW pmFW XE pmXN lo H0 yX13_be (ws_ yX13_be cX13_be 3 none) 1 22 2 P_X13_be := by
  refine pmMet.of (by decide +kernel) (by decide) ?_
  intro p e s m args below meth c R E hfr hlc F X hr hlocks hexc hnm
  refine wp_sim (V := fun b => pmV p l e R s m args below meth c G lo H0 3 pmcl pmft (vy_MQ below (pmQc G pmcl pmft lo H0 E) (pmXC G pmcl pmft pmXN lo H0 E) args s R.cells R.slots (fun q => lo ≤ q)) ((fun b => match b with | 0 => 0 | _ => 2 : Nat → Nat) b)) ?_ 0
  intro b Y hY
  match b with
  | 0 =>
    show pm_le _ (pmV p l e R s m args below meth c G lo H0 3 pmcl pmft (vy_MQ below (pmQc G pmcl pmft lo H0 E) (pmXC G pmcl pmft pmXN lo H0 E) args s R.cells R.slots (fun q => lo ≤ q)) 0)
    exact (sm_iconst F dX13_be_0 (by unfold inI; omega) (sm_istore_n F dX13_be_1 rfl (by decide) (hY 1)))
  | z + 1 =>
    show pm_le _ (pmV p l e R s m args below meth c G lo H0 3 pmcl pmft (vy_MQ below (pmQc G pmcl pmft lo H0 E) (pmXC G pmcl pmft pmXN lo H0 E) args s R.cells R.slots (fun q => lo ≤ q)) 2)
    exact (sm_iload_n F dX13_be_2 rfl (sm_bipush F dX13_be_3 ⟨by unfold inI; omega, by decide⟩ (sm_cmpge F (tgt := 26) dX13_be_5 (by decide) (sm_aload_n F dX13_be_26 rfl (sm_aload_n F dX13_be_27 rfl (sm_getI F cls_13 (k := 1) rfl (by decide) rfl q490 (fun _ h => h) dX13_be_28 (sm_putI F cls_13 (k := 1) rfl (by decide) rfl rfl rfl q490 (fun _ h => h) dX13_be_31 (sm_aload_n F dX13_be_34 rfl (sm_aload_n F dX13_be_35 rfl (sm_getI F cls_13 (k := 2) rfl (by decide) rfl q492 (fun _ h => h) dX13_be_36 (sm_putI F cls_13 (k := 2) rfl (by decide) rfl rfl rfl q492 (fun _ h => h) dX13_be_39 (sm_aload_n F dX13_be_42 rfl (sm_aload_n F dX13_be_43 rfl (sm_getI F cls_13 (k := 3) rfl (by decide) rfl q494 (fun _ h => h) dX13_be_44 (sm_putI F cls_13 (k := 3) rfl (by decide) rfl rfl rfl q494 (fun _ h => h) dX13_be_47 (sm_aload_n F dX13_be_50 rfl (sm_getR F cls_13 (k := 4) rfl (by decide) rfl q496 (fun _ h => h) dX13_be_51 (sm_aload_n F dX13_be_54 rfl (sm_getR F cls_13 (k := 4) rfl (by decide) rfl q496 (fun _ h => h) dX13_be_55 (sm_callV F X (met_X3_be l) cls_3 (fun _ _ => cwV 1 F.1.2.2.2.2 (lw_V q1269 q928 q929 q102 q930) rfl rfl rfl (by decide +kernel) ⟨by rw [hfr]; exact Nat.le_of_ble_eq_true rfl, by rw [hlc]; exact Nat.le_of_ble_eq_true rfl⟩) dX13_be_58 (sm_vret F hr hlocks dX13_be_61) sx_none))))))))))))))))) (sm_aload_n F dX13_be_8 rfl (sm_getR F cls_13 (k := 0) rfl (by decide) rfl q488 (fun _ h => h) dX13_be_9 (sm_iload_n F dX13_be_12 rfl (sm_aload_n F dX13_be_13 rfl (sm_getR F cls_13 (k := 0) rfl (by decide) rfl q488 (fun _ h => h) dX13_be_14 (sm_iload_n F dX13_be_17 rfl (sm_iald F kt_100 dX13_be_18 (sm_iast F kt_100 dX13_be_19 (sm_iinc F dX13_be_20 (by decide) (sm_goto F (tgt := 2) dX13_be_23 (by decide) (hY 1))))))))))))))
set_option maxHeartbeats 4000000 in
theorem met_X14_kind (l : Launch) : pmMet l G pmcl pmft pmkt pmNW pmFW XE pmXN lo H0 yX14_kind (ws_ yX14_kind cX14_kind 1 (some .int)) 0 0 1 P_X14_kind := by
  refine pmMet.of (by decide +kernel) (by decide) ?_
  intro p e s m args below meth c R E hfr hlc F X hr hlocks hexc hnm
  refine wp_sim (V := fun b => pmV p l e R s m args below meth c G lo H0 1 pmcl pmft (vy_MQ below (pmQc G pmcl pmft lo H0 E) (pmXC G pmcl pmft pmXN lo H0 E) args s R.cells R.slots (fun q => lo ≤ q)) ((fun b => match b with | _ => 0 : Nat → Nat) b)) ?_ 0
  intro b Y hY
  match b with
  | _ =>
    show pm_le _ (pmV p l e R s m args below meth c G lo H0 1 pmcl pmft (vy_MQ below (pmQc G pmcl pmft lo H0 E) (pmXC G pmcl pmft pmXN lo H0 E) args s R.cells R.slots (fun q => lo ≤ q)) 0)
    exact (sm_iconst F dX14_kind_0 (by unfold inI; omega) (sm_iret F hr hlocks dX14_kind_1))
set_option maxHeartbeats 4000000 in
theorem met_X15_init (l : Launch) : pmMet l G pmcl pmft pmkt pmNW pmFW XE pmXN lo H0 yX15_init (ws_ yX15_init cX15_init 1 none) 1 20 1 P_X15_init := by
  refine pmMet.of (by decide +kernel) (by decide) ?_
  intro p e s m args below meth c R E hfr hlc F X hr hlocks hexc hnm
  refine wp_sim (V := fun b => pmV p l e R s m args below meth c G lo H0 1 pmcl pmft (vy_MQ below (pmQc G pmcl pmft lo H0 E) (pmXC G pmcl pmft pmXN lo H0 E) args s R.cells R.slots (fun q => lo ≤ q)) ((fun b => match b with | _ => 0 : Nat → Nat) b)) ?_ 0
  intro b Y hY
  match b with
  | _ =>
    show pm_le _ (pmV p l e R s m args below meth c G lo H0 1 pmcl pmft (vy_MQ below (pmQc G pmcl pmft lo H0 E) (pmXC G pmcl pmft pmXN lo H0 E) args s R.cells R.slots (fun q => lo ≤ q)) 0)
    exact (sm_aload_n F dX15_init_0 rfl (sm_objinit F q596 q141 q142 (by rw [hfr]; exact Nat.le_of_ble_eq_true rfl) (by rw [hlc]; exact Nat.le_of_ble_eq_true rfl) dX15_init_1 (sm_vret F hr hlocks dX15_init_4)))
set_option maxHeartbeats 4000000 in
theorem met_X16_isPlace (l : Launch) : pmMet l G pmcl pmft pmkt pmNW pmFW XE pmXN lo H0 yX16_isPlace (ws_ yX16_isPlace cX16_isPlace 1 (some .boolean)) 0 0 1 P_X16_isPlace := by
  refine pmMet.of (by decide +kernel) (by decide) ?_
  intro p e s m args below meth c R E hfr hlc F X hr hlocks hexc hnm
  refine wp_sim (V := fun b => pmV p l e R s m args below meth c G lo H0 1 pmcl pmft (vy_MQ below (pmQc G pmcl pmft lo H0 E) (pmXC G pmcl pmft pmXN lo H0 E) args s R.cells R.slots (fun q => lo ≤ q)) ((fun b => match b with | 0 => 0 | 1 => 14 | _ => 15 : Nat → Nat) b)) ?_ 0
  intro b Y hY
  match b with
  | 0 =>
    show pm_le _ (pmV p l e R s m args below meth c G lo H0 1 pmcl pmft (vy_MQ below (pmQc G pmcl pmft lo H0 E) (pmXC G pmcl pmft pmXN lo H0 E) args s R.cells R.slots (fun q => lo ≤ q)) 0)
    exact (sm_iload_n F dX16_isPlace_0 rfl (sm_iflt F (tgt := 14) dX16_isPlace_1 (by decide) (sm_kil (hY 1)) (sm_iload_n F dX16_isPlace_4 rfl (sm_bipush F dX16_isPlace_5 ⟨by unfold inI; omega, by decide⟩ (sm_cmpge F (tgt := 14) dX16_isPlace_7 (by decide) (sm_kil (hY 1)) (sm_iconst F dX16_isPlace_10 (by unfold inI; omega) (sm_goto F (tgt := 15) dX16_isPlace_11 (by decide) (sm_kil (hY 2)))))))))
  | 1 =>
    show pm_le _ (pmV p l e R s m args below meth c G lo H0 1 pmcl pmft (vy_MQ below (pmQc G pmcl pmft lo H0 E) (pmXC G pmcl pmft pmXN lo H0 E) args s R.cells R.slots (fun q => lo ≤ q)) 14)
    exact (sm_iconst F dX16_isPlace_14 (by unfold inI; omega) (hY 2))
  | z + 2 =>
    show pm_le _ (pmV p l e R s m args below meth c G lo H0 1 pmcl pmft (vy_MQ below (pmQc G pmcl pmft lo H0 E) (pmXC G pmcl pmft pmXN lo H0 E) args s R.cells R.slots (fun q => lo ≤ q)) 15)
    exact (sm_zret F hr hlocks dX16_isPlace_15)
set_option maxHeartbeats 4000000 in
theorem met_X16_answer (l : Launch) : pmMet l G pmcl pmft pmkt pmNW pmFW XE pmXN lo H0 yX16_answer (ws_ yX16_answer cX16_answer 2 (some .int)) 0 0 2 P_X16_answer := by
  refine pmMet.of (by decide +kernel) (by decide) ?_
  intro p e s m args below meth c R E hfr hlc F X hr hlocks hexc hnm
  refine wp_sim (V := fun b => pmV p l e R s m args below meth c G lo H0 2 pmcl pmft (vy_MQ below (pmQc G pmcl pmft lo H0 E) (pmXC G pmcl pmft pmXN lo H0 E) args s R.cells R.slots (fun q => lo ≤ q)) ((fun b => match b with | 0 => 0 | _ => 20 : Nat → Nat) b)) ?_ 0
  intro b Y hY
  match b with
  | 0 =>
    show pm_le _ (pmV p l e R s m args below meth c G lo H0 2 pmcl pmft (vy_MQ below (pmQc G pmcl pmft lo H0 E) (pmXC G pmcl pmft pmXN lo H0 E) args s R.cells R.slots (fun q => lo ≤ q)) 0)
    exact (sm_iload_n F dX16_answer_0 rfl (sm_ifge F (tgt := 20) dX16_answer_1 (by decide) (sm_kil (hY 1)) (sm_aload_n F dX16_answer_4 rfl (sm_iload_n F dX16_answer_5 rfl (sm_putI F cls_16 (k := 20) rfl (by decide) rfl rfl rfl q1767 (fun _ h => h) dX16_answer_6 (sm_aload_n F dX16_answer_9 rfl (sm_getR F cls_16 (k := 21) rfl (by decide) rfl q1768 (fun _ h => h) dX16_answer_10 (sm_iload_n F dX16_answer_13 rfl (sm_ineg F dX16_answer_14 (sm_dup2 F dX16_answer_15 (sm_iald F kt_100 dX16_answer_16 (sm_iconst F dX16_answer_17 (by unfold inI; omega) (sm_iadd F dX16_answer_18 (sm_iast F kt_100 dX16_answer_19 (sm_kil (hY 1))))))))))))))))
  | z + 1 =>
    show pm_le _ (pmV p l e R s m args below meth c G lo H0 2 pmcl pmft (vy_MQ below (pmQc G pmcl pmft lo H0 E) (pmXC G pmcl pmft pmXN lo H0 E) args s R.cells R.slots (fun q => lo ≤ q)) 20)
    exact (sm_iload_n F dX16_answer_20 rfl (sm_iret F hr hlocks dX16_answer_21))
set_option maxHeartbeats 4000000 in
theorem met_X16_look (l : Launch) : pmMet l G pmcl pmft pmkt pmNW pmFW XE pmXN lo H0 yX16_look (ws_ yX16_look cX16_look 3 (some .int)) 1 20 3 P_X16_look := by
  refine pmMet.of (by decide +kernel) (by decide) ?_
  intro p e s m args below meth c R E hfr hlc F X hr hlocks hexc hnm
  refine wp_sim (V := fun b => pmV p l e R s m args below meth c G lo H0 3 pmcl pmft (vy_MQ below (pmQc G pmcl pmft lo H0 E) (pmXC G pmcl pmft pmXN lo H0 E) args s R.cells R.slots (fun q => lo ≤ q)) ((fun b => match b with | 0 => 0 | 1 => 44 | _ => 45 : Nat → Nat) b)) ?_ 0
  intro b Y hY
  match b with
  | 0 =>
    show pm_le _ (pmV p l e R s m args below meth c G lo H0 3 pmcl pmft (vy_MQ below (pmQc G pmcl pmft lo H0 E) (pmXC G pmcl pmft pmXN lo H0 E) args s R.cells R.slots (fun q => lo ≤ q)) 0)
    exact (sm_iload_n F dX16_look_0 rfl (sm_callS F X (met_X16_isPlace l) (fun _ _ => va_cwS 1 F.1.2.2.2.2 (lw_S q2033 q2034 q118 q2035) rfl rfl rfl (by decide +kernel) ⟨by rw [hfr]; exact Nat.le_of_ble_eq_true rfl, by rw [hlc]; exact Nat.le_of_ble_eq_true rfl⟩) dX16_look_1 (sm_ifne F (tgt := 11) dX16_look_4 (by decide) (sm_aload_n F dX16_look_11 rfl (sm_getR F cls_16 (k := 12) rfl (by decide) rfl q1759 (fun _ h => h) dX16_look_12 (sm_iload_n F dX16_look_15 rfl (sm_iald F kt_100 dX16_look_16 (sm_ifne F (tgt := 25) dX16_look_17 (by decide) (sm_iload_n F dX16_look_25 rfl (sm_ifeq F (tgt := 44) dX16_look_26 (by decide) (sm_kil (hY 1)) (sm_aload_n F dX16_look_29 rfl (sm_getR F cls_16 (k := 12) rfl (by decide) rfl q1759 (fun _ h => h) dX16_look_30 (sm_iload_n F dX16_look_33 rfl (sm_iald F kt_100 dX16_look_34 (sm_iload_n F dX16_look_35 rfl (sm_cmpeq F (tgt := 44) dX16_look_36 (by decide) (sm_kil (hY 1)) (sm_bipush F dX16_look_39 ⟨by unfold inI; omega, by decide⟩ (sm_goto F (tgt := 45) dX16_look_41 (by decide) (sm_kil (hY 2)))))))))))) (sm_bipush F dX16_look_20 ⟨by unfold inI; omega, by decide⟩ (sm_goto F (tgt := 45) dX16_look_22 (by decide) (sm_kil (hY 2))))))))) (sm_iconst F dX16_look_7 (by unfold inI; omega) (sm_goto F (tgt := 45) dX16_look_8 (by decide) (sm_kil (hY 2))))) sx_none))
  | 1 =>
    show pm_le _ (pmV p l e R s m args below meth c G lo H0 3 pmcl pmft (vy_MQ below (pmQc G pmcl pmft lo H0 E) (pmXC G pmcl pmft pmXN lo H0 E) args s R.cells R.slots (fun q => lo ≤ q)) 44)
    exact (sm_iconst F dX16_look_44 (by unfold inI; omega) (hY 2))
  | z + 2 =>
    show pm_le _ (pmV p l e R s m args below meth c G lo H0 3 pmcl pmft (vy_MQ below (pmQc G pmcl pmft lo H0 E) (pmXC G pmcl pmft pmXN lo H0 E) args s R.cells R.slots (fun q => lo ≤ q)) 45)
    exact (sm_iret F hr hlocks dX16_look_45)
set_option maxHeartbeats 4000000 in
theorem met_X16_exponent (l : Launch) : pmMet l G pmcl pmft pmkt pmNW pmFW XE pmXN lo H0 yX16_exponent (ws_ yX16_exponent cX16_exponent 2 (some .int)) 0 0 2 P_X16_exponent := by
  refine pmMet.of (by decide +kernel) (by decide) ?_
  intro p e s m args below meth c R E hfr hlc F X hr hlocks hexc hnm
  refine wp_sim (V := fun b => pmV p l e R s m args below meth c G lo H0 2 pmcl pmft (vy_MQ below (pmQc G pmcl pmft lo H0 E) (pmXC G pmcl pmft pmXN lo H0 E) args s R.cells R.slots (fun q => lo ≤ q)) ((fun b => match b with | _ => 0 : Nat → Nat) b)) ?_ 0
  intro b Y hY
  match b with
  | _ =>
    show pm_le _ (pmV p l e R s m args below meth c G lo H0 2 pmcl pmft (vy_MQ below (pmQc G pmcl pmft lo H0 E) (pmXC G pmcl pmft pmXN lo H0 E) args s R.cells R.slots (fun q => lo ≤ q)) 0)
    exact (sm_iload_n F dX16_exponent_0 rfl (sm_iconst F dX16_exponent_1 (by unfold inI; omega) (sm_iload_n F dX16_exponent_2 rfl (sm_imul F dX16_exponent_3 (sm_ishr F dX16_exponent_4 (sm_bipush F dX16_exponent_5 ⟨by unfold inI; omega, by decide⟩ (sm_iand F dX16_exponent_7 (sm_iret F hr hlocks dX16_exponent_8))))))))
set_option maxHeartbeats 4000000 in
theorem met_X16_multiply (l : Launch) : pmMet l G pmcl pmft pmkt pmNW pmFW XE pmXN lo H0 yX16_multiply (ws_ yX16_multiply cX16_multiply 9 none) 0 0 4 P_X16_multiply := by
  refine pmMet.of (by decide +kernel) (by decide) ?_
  intro p e s m args below meth c R E hfr hlc F X hr hlocks hexc hnm
  refine wp_sim (V := fun b => pmV p l e R s m args below meth c G lo H0 9 pmcl pmft (vy_MQ below (pmQc G pmcl pmft lo H0 E) (pmXC G pmcl pmft pmXN lo H0 E) args s R.cells R.slots (fun q => lo ≤ q)) ((fun b => match b with | 0 => 0 | 1 => 14 | 2 => 39 | 3 => 63 | 4 => 78 | 5 => 94 | 6 => 137 | 7 => 208 | _ => 214 : Nat → Nat) b)) ?_ 0
  intro b Y hY
  match b with
  | 0 =>
    show pm_le _ (pmV p l e R s m args below meth c G lo H0 9 pmcl pmft (vy_MQ below (pmQc G pmcl pmft lo H0 E) (pmXC G pmcl pmft pmXN lo H0 E) args s R.cells R.slots (fun q => lo ≤ q)) 0)
    exact (sm_aload_n F dX16_multiply_0 rfl (sm_getIN F cls_17 (k := 1) rfl (by decide) rfl (X.1.1 _ nw_q1662).2 (fun _ h => h) dX16_multiply_1 (sm_ifeq F (tgt := 14) dX16_multiply_4 (by decide) (sm_kil (hY 1)) (sm_aload_n F dX16_multiply_7 rfl (sm_getIN F cls_17 (k := 1) rfl (by decide) rfl (X.1.1 _ nw_q1662).2 (fun _ h => h) dX16_multiply_8 (sm_ifne F (tgt := 25) dX16_multiply_11 (by decide) (sm_aload_n F dX16_multiply_25 rfl (sm_getIN F cls_17 (k := 2) rfl (by decide) rfl (X.1.1 _ nw_q1664).2 (fun _ h => h) dX16_multiply_26 (sm_aload_n F dX16_multiply_29 rfl (sm_getIN F cls_17 (k := 2) rfl (by decide) rfl (X.1.1 _ nw_q1664).2 (fun _ h => h) dX16_multiply_30 (sm_iadd F dX16_multiply_33 (sm_istore F dX16_multiply_34 (by decide) (sm_iconst F dX16_multiply_36 (by unfold inI; omega) (sm_istore F dX16_multiply_37 (by decide) (hY 2))))))))) (sm_kil (hY 1))))))))
  | 1 =>
    show pm_le _ (pmV p l e R s m args below meth c G lo H0 9 pmcl pmft (vy_MQ below (pmQc G pmcl pmft lo H0 E) (pmXC G pmcl pmft pmXN lo H0 E) args s R.cells R.slots (fun q => lo ≤ q)) 14)
    exact (sm_aload_n F dX16_multiply_14 rfl (sm_iconst F dX16_multiply_15 (by unfold inI; omega) (sm_putIN F cls_17 (k := 1) rfl (by decide) rfl rfl rfl (X.1.1 _ nw_q1662).2 (fun _ h => h) dX16_multiply_16 (sm_aload_n F dX16_multiply_19 rfl (sm_iconst F dX16_multiply_20 (by unfold inI; omega) (sm_putIN F cls_17 (k := 2) rfl (by decide) rfl rfl rfl (X.1.1 _ nw_q1664).2 (fun _ h => h) dX16_multiply_21 (sm_vret F hr hlocks dX16_multiply_24)))))))
  | 2 =>
    show pm_le _ (pmV p l e R s m args below meth c G lo H0 9 pmcl pmft (vy_MQ below (pmQc G pmcl pmft lo H0 E) (pmXC G pmcl pmft pmXN lo H0 E) args s R.cells R.slots (fun q => lo ≤ q)) 39)
    exact (sm_iload F dX16_multiply_39 (sm_iload F dX16_multiply_41 (sm_cmpge F (tgt := 60) dX16_multiply_43 (by decide) (sm_iconst F dX16_multiply_60 (by unfold inI; omega) (sm_istore F dX16_multiply_61 (by decide) (hY 3))) (sm_aload_n F dX16_multiply_46 rfl (sm_getR F cls_16 (k := 0) rfl (by decide) rfl q1747 (fun _ h => h) dX16_multiply_47 (sm_iload F dX16_multiply_50 (sm_iconst F dX16_multiply_52 (by unfold inI; omega) (sm_iast F kt_100 dX16_multiply_53 (sm_iinc F dX16_multiply_54 (by decide) (sm_goto F (tgt := 39) dX16_multiply_57 (by decide) (hY 2)))))))))))
  | 3 =>
    show pm_le _ (pmV p l e R s m args below meth c G lo H0 9 pmcl pmft (vy_MQ below (pmQc G pmcl pmft lo H0 E) (pmXC G pmcl pmft pmXN lo H0 E) args s R.cells R.slots (fun q => lo ≤ q)) 63)
    exact (sm_iload F dX16_multiply_63 (sm_aload_n F dX16_multiply_65 rfl (sm_getIN F cls_17 (k := 2) rfl (by decide) rfl (X.1.1 _ nw_q1664).2 (fun _ h => h) dX16_multiply_66 (sm_cmpge F (tgt := 178) dX16_multiply_69 (by decide) (sm_aload_n F dX16_multiply_178 rfl (sm_getIN F cls_17 (k := 1) rfl (by decide) rfl (X.1.1 _ nw_q1662).2 (fun _ h => h) dX16_multiply_179 (sm_aload_n F dX16_multiply_182 rfl (sm_getIN F cls_17 (k := 1) rfl (by decide) rfl (X.1.1 _ nw_q1662).2 (fun _ h => h) dX16_multiply_183 (sm_imul F dX16_multiply_186 (sm_istore F dX16_multiply_187 (by decide) (sm_iload F dX16_multiply_189 (sm_aload_n F dX16_multiply_191 rfl (sm_getR F cls_16 (k := 0) rfl (by decide) rfl q1747 (fun _ h => h) dX16_multiply_192 (sm_iload F dX16_multiply_195 (sm_iconst F dX16_multiply_197 (by unfold inI; omega) (sm_isub F dX16_multiply_198 (sm_iald F kt_100 dX16_multiply_199 (sm_ifne F (tgt := 207) dX16_multiply_200 (by decide) (sm_iconst F dX16_multiply_207 (by unfold inI; omega) (sm_kil (hY 7))) (sm_iconst F dX16_multiply_203 (by unfold inI; omega) (sm_goto F (tgt := 208) dX16_multiply_204 (by decide) (sm_kil (hY 7)))))))))))))))))) (sm_lconst F dX16_multiply_72 ⟨by unfold inL; omega, by decide⟩ (sm_lstore F dX16_multiply_73 (by decide) (sm_iconst F dX16_multiply_75 (by unfold inI; omega) (sm_istore F dX16_multiply_76 (by decide) (hY 4)))))))))
  | 4 =>
    show pm_le _ (pmV p l e R s m args below meth c G lo H0 9 pmcl pmft (vy_MQ below (pmQc G pmcl pmft lo H0 E) (pmXC G pmcl pmft pmXN lo H0 E) args s R.cells R.slots (fun q => lo ≤ q)) 78)
    exact (sm_iload F dX16_multiply_78 (sm_aload_n F dX16_multiply_80 rfl (sm_getIN F cls_17 (k := 2) rfl (by decide) rfl (X.1.1 _ nw_q1664).2 (fun _ h => h) dX16_multiply_81 (sm_cmplt F (tgt := 94) dX16_multiply_84 (by decide) (hY 5) (sm_lload F dX16_multiply_87 (sm_lconst F dX16_multiply_89 ⟨by unfold inL; omega, by decide⟩ (sm_lcmp F dX16_multiply_90 (sm_ifle F (tgt := 172) dX16_multiply_91 (by decide) (sm_iinc F dX16_multiply_172 (by decide) (sm_goto F (tgt := 63) dX16_multiply_175 (by decide) (sm_kil (hY 3)))) (hY 5)))))))))
  | 5 =>
    show pm_le _ (pmV p l e R s m args below meth c G lo H0 9 pmcl pmft (vy_MQ below (pmQc G pmcl pmft lo H0 E) (pmXC G pmcl pmft pmXN lo H0 E) args s R.cells R.slots (fun q => lo ≤ q)) 94)
    exact (sm_lload F dX16_multiply_94 (sm_aload_n F dX16_multiply_96 rfl (sm_getR F cls_16 (k := 0) rfl (by decide) rfl q1747 (fun _ h => h) dX16_multiply_97 (sm_iload F dX16_multiply_100 (sm_iload F dX16_multiply_102 (sm_iadd F dX16_multiply_104 (sm_iald F kt_100 dX16_multiply_105 (sm_i2l F dX16_multiply_106 (sm_iload F dX16_multiply_107 (sm_aload_n F dX16_multiply_109 rfl (sm_getIN F cls_17 (k := 2) rfl (by decide) rfl (X.1.1 _ nw_q1664).2 (fun _ h => h) dX16_multiply_110 (sm_cmpge F (tgt := 136) dX16_multiply_113 (by decide) (sm_lconst F dX16_multiply_136 ⟨by unfold inL; omega, by decide⟩ (sm_kil (hY 6))) (sm_aload_n F dX16_multiply_116 rfl (sm_getRN F cls_17 (k := 0) rfl (by decide) rfl (X.1.1 _ nw_q1659).2 (fun _ h => h) dX16_multiply_117 (sm_iload F dX16_multiply_120 (sm_iald F kt_100 dX16_multiply_122 (sm_i2l F dX16_multiply_123 (sm_aload_n F dX16_multiply_124 rfl (sm_getRN F cls_17 (k := 0) rfl (by decide) rfl (X.1.1 _ nw_q1659).2 (fun _ h => h) dX16_multiply_125 (sm_iload F dX16_multiply_128 (sm_iald F kt_100 dX16_multiply_130 (sm_i2l F dX16_multiply_131 (sm_lmul F dX16_multiply_132 (sm_goto F (tgt := 137) dX16_multiply_133 (by decide) (sm_kil (hY 6))))))))))))))))))))))))))
  | 6 =>
    show pm_le _ (pmV p l e R s m args below meth c G lo H0 9 pmcl pmft (vy_MQ below (pmQc G pmcl pmft lo H0 E) (pmXC G pmcl pmft pmXN lo H0 E) args s R.cells R.slots (fun q => lo ≤ q)) 137)
    exact (sm_ladd F dX16_multiply_137 (sm_ladd F dX16_multiply_138 (sm_lstore F dX16_multiply_139 (by decide) (sm_aload_n F dX16_multiply_141 rfl (sm_getR F cls_16 (k := 0) rfl (by decide) rfl q1747 (fun _ h => h) dX16_multiply_142 (sm_iload F dX16_multiply_145 (sm_iload F dX16_multiply_147 (sm_iadd F dX16_multiply_149 (sm_lload F dX16_multiply_150 (sm_ldc2 F dX16_multiply_152 (by unfold inL; omega) q2100 (sm_lrem F dX16_multiply_155 (sm_l2i F dX16_multiply_156 (sm_iast F kt_100 dX16_multiply_157 (sm_lload F dX16_multiply_158 (sm_ldc2 F dX16_multiply_160 (by unfold inL; omega) q2100 (sm_ldiv F dX16_multiply_163 (sm_lstore F dX16_multiply_164 (by decide) (sm_iinc F dX16_multiply_166 (by decide) (sm_goto F (tgt := 78) dX16_multiply_169 (by decide) (hY 4))))))))))))))))))))
  | 7 =>
    show pm_le _ (pmV p l e R s m args below meth c G lo H0 9 pmcl pmft (vy_MQ below (pmQc G pmcl pmft lo H0 E) (pmXC G pmcl pmft pmXN lo H0 E) args s R.cells R.slots (fun q => lo ≤ q)) 208)
    exact (sm_isub F dX16_multiply_208 (sm_istore F dX16_multiply_209 (by decide) (sm_iconst F dX16_multiply_211 (by unfold inI; omega) (sm_istore F dX16_multiply_212 (by decide) (hY 8)))))
  | z + 8 =>
    show pm_le _ (pmV p l e R s m args below meth c G lo H0 9 pmcl pmft (vy_MQ below (pmQc G pmcl pmft lo H0 E) (pmXC G pmcl pmft pmXN lo H0 E) args s R.cells R.slots (fun q => lo ≤ q)) 214)
    exact (sm_iload F dX16_multiply_214 (sm_iload F dX16_multiply_216 (sm_cmpge F (tgt := 241) dX16_multiply_218 (by decide) (sm_aload_n F dX16_multiply_241 rfl (sm_iload F dX16_multiply_242 (sm_putIN F cls_17 (k := 2) rfl (by decide) rfl rfl rfl (X.1.1 _ nw_q1664).2 (fun _ h => h) dX16_multiply_244 (sm_aload_n F dX16_multiply_247 rfl (sm_iload F dX16_multiply_248 (sm_putIN F cls_17 (k := 1) rfl (by decide) rfl rfl rfl (X.1.1 _ nw_q1662).2 (fun _ h => h) dX16_multiply_250 (sm_vret F hr hlocks dX16_multiply_253))))))) (sm_aload_n F dX16_multiply_221 rfl (sm_getRN F cls_17 (k := 0) rfl (by decide) rfl (X.1.1 _ nw_q1659).2 (fun _ h => h) dX16_multiply_222 (sm_iload F dX16_multiply_225 (sm_aload_n F dX16_multiply_227 rfl (sm_getR F cls_16 (k := 0) rfl (by decide) rfl q1747 (fun _ h => h) dX16_multiply_228 (sm_iload F dX16_multiply_231 (sm_iald F kt_100 dX16_multiply_233 (sm_iast F kt_100 dX16_multiply_234 (sm_iinc F dX16_multiply_235 (by decide) (sm_goto F (tgt := 214) dX16_multiply_238 (by decide) (hY 8))))))))))))))
set_option maxHeartbeats 4000000 in
theorem met_X16_compare (l : Launch) : pmMet l G pmcl pmft pmkt pmNW pmFW XE pmXN lo H0 yX16_compare (ws_ yX16_compare cX16_compare 3 (some .int)) 0 0 2 P_X16_compare := by
  refine pmMet.of (by decide +kernel) (by decide) ?_
  intro p e s m args below meth c R E hfr hlc F X hr hlocks hexc hnm
  refine wp_sim (V := fun b => pmV p l e R s m args below meth c G lo H0 3 pmcl pmft (vy_MQ below (pmQc G pmcl pmft lo H0 E) (pmXC G pmcl pmft pmXN lo H0 E) args s R.cells R.slots (fun q => lo ≤ q)) ((fun b => match b with | 0 => 0 | 1 => 27 | 2 => 35 | _ => 74 : Nat → Nat) b)) ?_ 0
  intro b Y hY
  match b with
  | 0 =>
    show pm_le _ (pmV p l e R s m args below meth c G lo H0 3 pmcl pmft (vy_MQ below (pmQc G pmcl pmft lo H0 E) (pmXC G pmcl pmft pmXN lo H0 E) args s R.cells R.slots (fun q => lo ≤ q)) 0)
    exact (sm_aload_n F dX16_compare_0 rfl (sm_getIN F cls_17 (k := 2) rfl (by decide) rfl (X.1.1 _ nw_q1664).2 (fun _ h => h) dX16_compare_1 (sm_aload_n F dX16_compare_4 rfl (sm_getIN F cls_17 (k := 2) rfl (by decide) rfl (X.1.1 _ nw_q1664).2 (fun _ h => h) dX16_compare_5 (sm_cmpeq F (tgt := 28) dX16_compare_8 (by decide) (sm_aload_n F dX16_compare_28 rfl (sm_getIN F cls_17 (k := 2) rfl (by decide) rfl (X.1.1 _ nw_q1664).2 (fun _ h => h) dX16_compare_29 (sm_iconst F dX16_compare_32 (by unfold inI; omega) (sm_isub F dX16_compare_33 (sm_istore_n F dX16_compare_34 rfl (by decide) (hY 2)))))) (sm_aload_n F dX16_compare_11 rfl (sm_getIN F cls_17 (k := 2) rfl (by decide) rfl (X.1.1 _ nw_q1664).2 (fun _ h => h) dX16_compare_12 (sm_aload_n F dX16_compare_15 rfl (sm_getIN F cls_17 (k := 2) rfl (by decide) rfl (X.1.1 _ nw_q1664).2 (fun _ h => h) dX16_compare_16 (sm_cmpge F (tgt := 26) dX16_compare_19 (by decide) (sm_iconst F dX16_compare_26 (by unfold inI; omega) (sm_kil (hY 1))) (sm_iconst F dX16_compare_22 (by unfold inI; omega) (sm_goto F (tgt := 27) dX16_compare_23 (by decide) (sm_kil (hY 1))))))))))))))
  | 1 =>
    show pm_le _ (pmV p l e R s m args below meth c G lo H0 3 pmcl pmft (vy_MQ below (pmQc G pmcl pmft lo H0 E) (pmXC G pmcl pmft pmXN lo H0 E) args s R.cells R.slots (fun q => lo ≤ q)) 27)
    exact (sm_iret F hr hlocks dX16_compare_27)
  | 2 =>
    show pm_le _ (pmV p l e R s m args below meth c G lo H0 3 pmcl pmft (vy_MQ below (pmQc G pmcl pmft lo H0 E) (pmXC G pmcl pmft pmXN lo H0 E) args s R.cells R.slots (fun q => lo ≤ q)) 35)
    exact (sm_iload_n F dX16_compare_35 rfl (sm_iflt F (tgt := 81) dX16_compare_36 (by decide) (sm_iconst F dX16_compare_81 (by unfold inI; omega) (sm_iret F hr hlocks dX16_compare_82)) (sm_aload_n F dX16_compare_39 rfl (sm_getRN F cls_17 (k := 0) rfl (by decide) rfl (X.1.1 _ nw_q1659).2 (fun _ h => h) dX16_compare_40 (sm_iload_n F dX16_compare_43 rfl (sm_iald F kt_100 dX16_compare_44 (sm_aload_n F dX16_compare_45 rfl (sm_getRN F cls_17 (k := 0) rfl (by decide) rfl (X.1.1 _ nw_q1659).2 (fun _ h => h) dX16_compare_46 (sm_iload_n F dX16_compare_49 rfl (sm_iald F kt_100 dX16_compare_50 (sm_cmpeq F (tgt := 75) dX16_compare_51 (by decide) (sm_iinc F dX16_compare_75 (by decide) (sm_goto F (tgt := 35) dX16_compare_78 (by decide) (hY 2))) (sm_aload_n F dX16_compare_54 rfl (sm_getRN F cls_17 (k := 0) rfl (by decide) rfl (X.1.1 _ nw_q1659).2 (fun _ h => h) dX16_compare_55 (sm_iload_n F dX16_compare_58 rfl (sm_iald F kt_100 dX16_compare_59 (sm_aload_n F dX16_compare_60 rfl (sm_getRN F cls_17 (k := 0) rfl (by decide) rfl (X.1.1 _ nw_q1659).2 (fun _ h => h) dX16_compare_61 (sm_iload_n F dX16_compare_64 rfl (sm_iald F kt_100 dX16_compare_65 (sm_cmpge F (tgt := 73) dX16_compare_66 (by decide) (sm_iconst F dX16_compare_73 (by unfold inI; omega) (sm_kil (hY 3))) (sm_iconst F dX16_compare_69 (by unfold inI; omega) (sm_goto F (tgt := 74) dX16_compare_70 (by decide) (sm_kil (hY 3))))))))))))))))))))))))
  | z + 3 =>
    show pm_le _ (pmV p l e R s m args below meth c G lo H0 3 pmcl pmft (vy_MQ below (pmQc G pmcl pmft lo H0 E) (pmXC G pmcl pmft pmXN lo H0 E) args s R.cells R.slots (fun q => lo ≤ q)) 74)
    exact (sm_iret F hr hlocks dX16_compare_74)
set_option maxHeartbeats 4000000 in
theorem met_X16_trim (l : Launch) : pmMet l G pmcl pmft pmkt pmNW pmFW XE pmXN lo H0 yX16_trim (ws_ yX16_trim cX16_trim 2 none) 0 0 2 P_X16_trim := by
  refine pmMet.of (by decide +kernel) (by decide) ?_
  intro p e s m args below meth c R E hfr hlc F X hr hlocks hexc hnm
  refine wp_sim (V := fun b => pmV p l e R s m args below meth c G lo H0 2 pmcl pmft (vy_MQ below (pmQc G pmcl pmft lo H0 E) (pmXC G pmcl pmft pmXN lo H0 E) args s R.cells R.slots (fun q => lo ≤ q)) ((fun b => match b with | 0 => 0 | 1 => 5 | _ => 39 : Nat → Nat) b)) ?_ 0
  intro b Y hY
  match b with
  | 0 =>
    show pm_le _ (pmV p l e R s m args below meth c G lo H0 2 pmcl pmft (vy_MQ below (pmQc G pmcl pmft lo H0 E) (pmXC G pmcl pmft pmXN lo H0 E) args s R.cells R.slots (fun q => lo ≤ q)) 0)
    exact (sm_aload_n F dX16_trim_0 rfl (sm_iload_n F dX16_trim_1 rfl (sm_putIN F cls_17 (k := 2) rfl (by decide) rfl rfl rfl (X.1.1 _ nw_q1664).2 (fun _ h => h) dX16_trim_2 (sm_kil (hY 1)))))
  | 1 =>
    show pm_le _ (pmV p l e R s m args below meth c G lo H0 2 pmcl pmft (vy_MQ below (pmQc G pmcl pmft lo H0 E) (pmXC G pmcl pmft pmXN lo H0 E) args s R.cells R.slots (fun q => lo ≤ q)) 5)
    exact (sm_aload_n F dX16_trim_5 rfl (sm_getIN F cls_17 (k := 2) rfl (by decide) rfl (X.1.1 _ nw_q1664).2 (fun _ h => h) dX16_trim_6 (sm_ifle F (tgt := 39) dX16_trim_9 (by decide) (sm_kil (hY 2)) (sm_aload_n F dX16_trim_12 rfl (sm_getRN F cls_17 (k := 0) rfl (by decide) rfl (X.1.1 _ nw_q1659).2 (fun _ h => h) dX16_trim_13 (sm_aload_n F dX16_trim_16 rfl (sm_getIN F cls_17 (k := 2) rfl (by decide) rfl (X.1.1 _ nw_q1664).2 (fun _ h => h) dX16_trim_17 (sm_iconst F dX16_trim_20 (by unfold inI; omega) (sm_isub F dX16_trim_21 (sm_iald F kt_100 dX16_trim_22 (sm_ifne F (tgt := 39) dX16_trim_23 (by decide) (sm_kil (hY 2)) (sm_aload_n F dX16_trim_26 rfl (sm_dup F dX16_trim_27 (sm_getIN F cls_17 (k := 2) rfl (by decide) rfl (X.1.1 _ nw_q1664).2 (fun _ h => h) dX16_trim_28 (sm_iconst F dX16_trim_31 (by unfold inI; omega) (sm_isub F dX16_trim_32 (sm_putIN F cls_17 (k := 2) rfl (by decide) rfl rfl rfl (X.1.1 _ nw_q1664).2 (fun _ h => h) dX16_trim_33 (sm_goto F (tgt := 5) dX16_trim_36 (by decide) (hY 1)))))))))))))))))))
  | z + 2 =>
    show pm_le _ (pmV p l e R s m args below meth c G lo H0 2 pmcl pmft (vy_MQ below (pmQc G pmcl pmft lo H0 E) (pmXC G pmcl pmft pmXN lo H0 E) args s R.cells R.slots (fun q => lo ≤ q)) 39)
    exact (sm_vret F hr hlocks dX16_trim_39)
set_option maxHeartbeats 4000000 in
theorem met_X16_lex (l : Launch) : pmMet l G pmcl pmft pmkt pmNW pmFW XE pmXN lo H0 yX16_lex (ws_ yX16_lex cX16_lex 3 (some .int)) 1 21 2 P_X16_lex := by
  refine pmMet.of (by decide +kernel) (by decide) ?_
  intro p e s m args below meth c R E hfr hlc F X hr hlocks hexc hnm
  refine wp_sim (V := fun b => pmV p l e R s m args below meth c G lo H0 3 pmcl pmft (vy_MQ below (pmQc G pmcl pmft lo H0 E) (pmXC G pmcl pmft pmXN lo H0 E) args s R.cells R.slots (fun q => lo ≤ q)) ((fun b => match b with | 0 => 0 | 1 => 2 | _ => 38 : Nat → Nat) b)) ?_ 0
  intro b Y hY
  match b with
  | 0 =>
    show pm_le _ (pmV p l e R s m args below meth c G lo H0 3 pmcl pmft (vy_MQ below (pmQc G pmcl pmft lo H0 E) (pmXC G pmcl pmft pmXN lo H0 E) args s R.cells R.slots (fun q => lo ≤ q)) 0)
    exact (sm_iconst F dX16_lex_0 (by unfold inI; omega) (sm_istore_n F dX16_lex_1 rfl (by decide) (hY 1)))
  | 1 =>
    show pm_le _ (pmV p l e R s m args below meth c G lo H0 3 pmcl pmft (vy_MQ below (pmQc G pmcl pmft lo H0 E) (pmXC G pmcl pmft pmXN lo H0 E) args s R.cells R.slots (fun q => lo ≤ q)) 2)
    exact (sm_iload_n F dX16_lex_2 rfl (sm_iconst F dX16_lex_3 (by unfold inI; omega) (sm_cmpge F (tgt := 45) dX16_lex_4 (by decide) (sm_iconst F dX16_lex_45 (by unfold inI; omega) (sm_iret F hr hlocks dX16_lex_46)) (sm_iload_n F dX16_lex_7 rfl (sm_iload_n F dX16_lex_8 rfl (sm_callS F X (met_X16_exponent l) (fun _ _ => va_cwS 2 F.1.2.2.2.2 (lw_S q2067 q2068 q118 q2069) rfl rfl rfl (by decide +kernel) ⟨by rw [hfr]; exact Nat.le_of_ble_eq_true rfl, by rw [hlc]; exact Nat.le_of_ble_eq_true rfl⟩) dX16_lex_9 (sm_iload_n F dX16_lex_12 rfl (sm_iload_n F dX16_lex_13 rfl (sm_callS F X (met_X16_exponent l) (fun _ _ => va_cwS 2 F.1.2.2.2.2 (lw_S q2067 q2068 q118 q2069) rfl rfl rfl (by decide +kernel) ⟨by rw [hfr]; exact Nat.le_of_ble_eq_true rfl, by rw [hlc]; exact Nat.le_of_ble_eq_true rfl⟩) dX16_lex_14 (sm_cmpeq F (tgt := 39) dX16_lex_17 (by decide) (sm_iinc F dX16_lex_39 (by decide) (sm_goto F (tgt := 2) dX16_lex_42 (by decide) (hY 1))) (sm_iload_n F dX16_lex_20 rfl (sm_iload_n F dX16_lex_21 rfl (sm_callS F X (met_X16_exponent l) (fun _ _ => va_cwS 2 F.1.2.2.2.2 (lw_S q2067 q2068 q118 q2069) rfl rfl rfl (by decide +kernel) ⟨by rw [hfr]; exact Nat.le_of_ble_eq_true rfl, by rw [hlc]; exact Nat.le_of_ble_eq_true rfl⟩) dX16_lex_22 (sm_iload_n F dX16_lex_25 rfl (sm_iload_n F dX16_lex_26 rfl (sm_callS F X (met_X16_exponent l) (fun _ _ => va_cwS 2 F.1.2.2.2.2 (lw_S q2067 q2068 q118 q2069) rfl rfl rfl (by decide +kernel) ⟨by rw [hfr]; exact Nat.le_of_ble_eq_true rfl, by rw [hlc]; exact Nat.le_of_ble_eq_true rfl⟩) dX16_lex_27 (sm_cmpge F (tgt := 37) dX16_lex_30 (by decide) (sm_iconst F dX16_lex_37 (by unfold inI; omega) (sm_kil (hY 2))) (sm_iconst F dX16_lex_33 (by unfold inI; omega) (sm_goto F (tgt := 38) dX16_lex_34 (by decide) (sm_kil (hY 2))))) sx_none))) sx_none)))) sx_none))) sx_none))))))
  | z + 2 =>
    show pm_le _ (pmV p l e R s m args below meth c G lo H0 3 pmcl pmft (vy_MQ below (pmQc G pmcl pmft lo H0 E) (pmXC G pmcl pmft pmXN lo H0 E) args s R.cells R.slots (fun q => lo ≤ q)) 38)
    exact (sm_iret F hr hlocks dX16_lex_38)
set_option maxHeartbeats 4000000 in
theorem met_X16_firstOf (l : Launch) : pmMet l G pmcl pmft pmkt pmNW pmFW XE pmXN lo H0 yX16_firstOf (ws_ yX16_firstOf cX16_firstOf 3 (some .int)) 0 0 3 P_X16_firstOf := by
  refine pmMet.of (by decide +kernel) (by decide) ?_
  intro p e s m args below meth c R E hfr hlc F X hr hlocks hexc hnm
  refine wp_sim (V := fun b => pmV p l e R s m args below meth c G lo H0 3 pmcl pmft (vy_MQ below (pmQc G pmcl pmft lo H0 E) (pmXC G pmcl pmft pmXN lo H0 E) args s R.cells R.slots (fun q => lo ≤ q)) ((fun b => match b with | 0 => 0 | _ => 17 : Nat → Nat) b)) ?_ 0
  intro b Y hY
  match b with
  | 0 =>
    show pm_le _ (pmV p l e R s m args below meth c G lo H0 3 pmcl pmft (vy_MQ below (pmQc G pmcl pmft lo H0 E) (pmXC G pmcl pmft pmXN lo H0 E) args s R.cells R.slots (fun q => lo ≤ q)) 0)
    exact (sm_iload_n F dX16_firstOf_0 rfl (sm_ifge F (tgt := 8) dX16_firstOf_1 (by decide) (sm_iload_n F dX16_firstOf_8 rfl (sm_ifge F (tgt := 16) dX16_firstOf_9 (by decide) (sm_iload_n F dX16_firstOf_16 rfl (sm_kil (hY 1))) (sm_iload_n F dX16_firstOf_12 rfl (sm_goto F (tgt := 17) dX16_firstOf_13 (by decide) (sm_kil (hY 1)))))) (sm_iload_n F dX16_firstOf_4 rfl (sm_goto F (tgt := 17) dX16_firstOf_5 (by decide) (sm_kil (hY 1))))))
  | z + 1 =>
    show pm_le _ (pmV p l e R s m args below meth c G lo H0 3 pmcl pmft (vy_MQ below (pmQc G pmcl pmft lo H0 E) (pmXC G pmcl pmft pmXN lo H0 E) args s R.cells R.slots (fun q => lo ≤ q)) 17)
    exact (sm_iret F hr hlocks dX16_firstOf_17)
set_option maxHeartbeats 4000000 in
theorem met_X16_firstOf_2 (l : Launch) : pmMet l G pmcl pmft pmkt pmNW pmFW XE pmXN lo H0 yX16_firstOf_2 (ws_ yX16_firstOf_2 cX16_firstOf_2 2 (some .int)) 0 0 2 P_X16_firstOf_2 := by
  refine pmMet.of (by decide +kernel) (by decide) ?_
  intro p e s m args below meth c R E hfr hlc F X hr hlocks hexc hnm
  refine wp_sim (V := fun b => pmV p l e R s m args below meth c G lo H0 2 pmcl pmft (vy_MQ below (pmQc G pmcl pmft lo H0 E) (pmXC G pmcl pmft pmXN lo H0 E) args s R.cells R.slots (fun q => lo ≤ q)) ((fun b => match b with | 0 => 0 | _ => 9 : Nat → Nat) b)) ?_ 0
  intro b Y hY
  match b with
  | 0 =>
    show pm_le _ (pmV p l e R s m args below meth c G lo H0 2 pmcl pmft (vy_MQ below (pmQc G pmcl pmft lo H0 E) (pmXC G pmcl pmft pmXN lo H0 E) args s R.cells R.slots (fun q => lo ≤ q)) 0)
    exact (sm_iload_n F dX16_firstOf_2_0 rfl (sm_ifge F (tgt := 8) dX16_firstOf_2_1 (by decide) (sm_iload_n F dX16_firstOf_2_8 rfl (sm_kil (hY 1))) (sm_iload_n F dX16_firstOf_2_4 rfl (sm_goto F (tgt := 9) dX16_firstOf_2_5 (by decide) (sm_kil (hY 1))))))
  | z + 1 =>
    show pm_le _ (pmV p l e R s m args below meth c G lo H0 2 pmcl pmft (vy_MQ below (pmQc G pmcl pmft lo H0 E) (pmXC G pmcl pmft pmXN lo H0 E) args s R.cells R.slots (fun q => lo ≤ q)) 9)
    exact (sm_iret F hr hlocks dX16_firstOf_2_9)
set_option maxHeartbeats 4000000 in
theorem met_X16_reverse (l : Launch) : pmMet l G pmcl pmft pmkt pmNW pmFW XE pmXN lo H0 yX16_reverse (ws_ yX16_reverse cX16_reverse 7 (some .int)) 1 21 4 P_X16_reverse := by
  refine pmMet.of (by decide +kernel) (by decide) ?_
  intro p e s m args below meth c R E hfr hlc F X hr hlocks hexc hnm
  refine wp_sim (V := fun b => pmV p l e R s m args below meth c G lo H0 7 pmcl pmft (vy_MQ below (pmQc G pmcl pmft lo H0 E) (pmXC G pmcl pmft pmXN lo H0 E) args s R.cells R.slots (fun q => lo ≤ q)) ((fun b => match b with | 0 => 0 | 1 => 9 | 2 => 62 | 3 => 68 | _ => 109 : Nat → Nat) b)) ?_ 0
  intro b Y hY
  match b with
  | 0 =>
    show pm_le _ (pmV p l e R s m args below meth c G lo H0 7 pmcl pmft (vy_MQ below (pmQc G pmcl pmft lo H0 E) (pmXC G pmcl pmft pmXN lo H0 E) args s R.cells R.slots (fun q => lo ≤ q)) 0)
    exact (sm_iconst F dX16_reverse_0 (by unfold inI; omega) (sm_istore F dX16_reverse_1 (by decide) (sm_iconst F dX16_reverse_3 (by unfold inI; omega) (sm_istore F dX16_reverse_4 (by decide) (sm_iload_n F dX16_reverse_6 rfl (sm_istore F dX16_reverse_7 (by decide) (hY 1)))))))
  | 1 =>
    show pm_le _ (pmV p l e R s m args below meth c G lo H0 7 pmcl pmft (vy_MQ below (pmQc G pmcl pmft lo H0 E) (pmXC G pmcl pmft pmXN lo H0 E) args s R.cells R.slots (fun q => lo ≤ q)) 9)
    exact (sm_iload F dX16_reverse_9 (sm_iload_n F dX16_reverse_11 rfl (sm_cmpge F (tgt := 43) dX16_reverse_12 (by decide) (sm_iload F dX16_reverse_43 (sm_iload F dX16_reverse_45 (sm_cmpeq F (tgt := 63) dX16_reverse_47 (by decide) (sm_iload_n F dX16_reverse_63 rfl (sm_iconst F dX16_reverse_64 (by unfold inI; omega) (sm_isub F dX16_reverse_65 (sm_istore F dX16_reverse_66 (by decide) (sm_kil (hY 3)))))) (sm_iload F dX16_reverse_50 (sm_iload F dX16_reverse_52 (sm_cmpge F (tgt := 61) dX16_reverse_54 (by decide) (sm_iconst F dX16_reverse_61 (by unfold inI; omega) (sm_kil (hY 2))) (sm_iconst F dX16_reverse_57 (by unfold inI; omega) (sm_goto F (tgt := 62) dX16_reverse_58 (by decide) (sm_kil (hY 2)))))))))) (sm_iload F dX16_reverse_15 (sm_iload_n F dX16_reverse_17 rfl (sm_iload F dX16_reverse_18 (sm_callS F X (met_X16_exponent l) (fun _ _ => va_cwS 2 F.1.2.2.2.2 (lw_S q2067 q2068 q118 q2069) rfl rfl rfl (by decide +kernel) ⟨by rw [hfr]; exact Nat.le_of_ble_eq_true rfl, by rw [hlc]; exact Nat.le_of_ble_eq_true rfl⟩) dX16_reverse_20 (sm_iadd F dX16_reverse_23 (sm_istore F dX16_reverse_24 (by decide) (sm_iload F dX16_reverse_26 (sm_iload_n F dX16_reverse_28 rfl (sm_iload F dX16_reverse_29 (sm_callS F X (met_X16_exponent l) (fun _ _ => va_cwS 2 F.1.2.2.2.2 (lw_S q2067 q2068 q118 q2069) rfl rfl rfl (by decide +kernel) ⟨by rw [hfr]; exact Nat.le_of_ble_eq_true rfl, by rw [hlc]; exact Nat.le_of_ble_eq_true rfl⟩) dX16_reverse_31 (sm_iadd F dX16_reverse_34 (sm_istore F dX16_reverse_35 (by decide) (sm_iinc F dX16_reverse_37 (by decide) (sm_goto F (tgt := 9) dX16_reverse_40 (by decide) (hY 1))))) sx_none)))))) sx_none)))))))
  | 2 =>
    show pm_le _ (pmV p l e R s m args below meth c G lo H0 7 pmcl pmft (vy_MQ below (pmQc G pmcl pmft lo H0 E) (pmXC G pmcl pmft pmXN lo H0 E) args s R.cells R.slots (fun q => lo ≤ q)) 62)
    exact (sm_iret F hr hlocks dX16_reverse_62)
  | 3 =>
    show pm_le _ (pmV p l e R s m args below meth c G lo H0 7 pmcl pmft (vy_MQ below (pmQc G pmcl pmft lo H0 E) (pmXC G pmcl pmft pmXN lo H0 E) args s R.cells R.slots (fun q => lo ≤ q)) 68)
    exact (sm_iload F dX16_reverse_68 (sm_iload_n F dX16_reverse_70 rfl (sm_cmple F (tgt := 116) dX16_reverse_71 (by decide) (sm_iconst F dX16_reverse_116 (by unfold inI; omega) (sm_iret F hr hlocks dX16_reverse_117)) (sm_iload_n F dX16_reverse_74 rfl (sm_iload F dX16_reverse_75 (sm_callS F X (met_X16_exponent l) (fun _ _ => va_cwS 2 F.1.2.2.2.2 (lw_S q2067 q2068 q118 q2069) rfl rfl rfl (by decide +kernel) ⟨by rw [hfr]; exact Nat.le_of_ble_eq_true rfl, by rw [hlc]; exact Nat.le_of_ble_eq_true rfl⟩) dX16_reverse_77 (sm_iload_n F dX16_reverse_80 rfl (sm_iload F dX16_reverse_81 (sm_callS F X (met_X16_exponent l) (fun _ _ => va_cwS 2 F.1.2.2.2.2 (lw_S q2067 q2068 q118 q2069) rfl rfl rfl (by decide +kernel) ⟨by rw [hfr]; exact Nat.le_of_ble_eq_true rfl, by rw [hlc]; exact Nat.le_of_ble_eq_true rfl⟩) dX16_reverse_83 (sm_cmpeq F (tgt := 110) dX16_reverse_86 (by decide) (sm_iinc F dX16_reverse_110 (by decide) (sm_goto F (tgt := 68) dX16_reverse_113 (by decide) (hY 3))) (sm_iload_n F dX16_reverse_89 rfl (sm_iload F dX16_reverse_90 (sm_callS F X (met_X16_exponent l) (fun _ _ => va_cwS 2 F.1.2.2.2.2 (lw_S q2067 q2068 q118 q2069) rfl rfl rfl (by decide +kernel) ⟨by rw [hfr]; exact Nat.le_of_ble_eq_true rfl, by rw [hlc]; exact Nat.le_of_ble_eq_true rfl⟩) dX16_reverse_92 (sm_iload_n F dX16_reverse_95 rfl (sm_iload F dX16_reverse_96 (sm_callS F X (met_X16_exponent l) (fun _ _ => va_cwS 2 F.1.2.2.2.2 (lw_S q2067 q2068 q118 q2069) rfl rfl rfl (by decide +kernel) ⟨by rw [hfr]; exact Nat.le_of_ble_eq_true rfl, by rw [hlc]; exact Nat.le_of_ble_eq_true rfl⟩) dX16_reverse_98 (sm_cmple F (tgt := 108) dX16_reverse_101 (by decide) (sm_iconst F dX16_reverse_108 (by unfold inI; omega) (sm_kil (hY 4))) (sm_iconst F dX16_reverse_104 (by unfold inI; omega) (sm_goto F (tgt := 109) dX16_reverse_105 (by decide) (sm_kil (hY 4))))) sx_none))) sx_none)))) sx_none))) sx_none))))))
  | z + 4 =>
    show pm_le _ (pmV p l e R s m args below meth c G lo H0 7 pmcl pmft (vy_MQ below (pmQc G pmcl pmft lo H0 E) (pmXC G pmcl pmft pmXN lo H0 E) args s R.cells R.slots (fun q => lo ≤ q)) 109)
    exact (sm_iret F hr hlocks dX16_reverse_109)
set_option maxHeartbeats 4000000 in
theorem met_X16_put (l : Launch) : pmMet l G pmcl pmft pmkt pmNW pmFW XE pmXN lo H0 yX16_put (ws_ yX16_put cX16_put 2 none) 0 0 2 P_X16_put := by
  refine pmMet.of (by decide +kernel) (by decide) ?_
  intro p e s m args below meth c R E hfr hlc F X hr hlocks hexc hnm
  refine wp_sim (V := fun b => pmV p l e R s m args below meth c G lo H0 2 pmcl pmft (vy_MQ below (pmQc G pmcl pmft lo H0 E) (pmXC G pmcl pmft pmXN lo H0 E) args s R.cells R.slots (fun q => lo ≤ q)) ((fun b => match b with | _ => 0 : Nat → Nat) b)) ?_ 0
  intro b Y hY
  match b with
  | _ =>
    show pm_le _ (pmV p l e R s m args below meth c G lo H0 2 pmcl pmft (vy_MQ below (pmQc G pmcl pmft lo H0 E) (pmXC G pmcl pmft pmXN lo H0 E) args s R.cells R.slots (fun q => lo ≤ q)) 0)
    exact (sm_aload_n F dX16_put_0 rfl (sm_getR F cls_16 (k := 37) rfl (by decide) rfl q1784 (fun _ h => h) dX16_put_1 (sm_aload_n F dX16_put_4 rfl (sm_getI F cls_16 (k := 38) rfl (by decide) rfl q1785 (fun _ h => h) dX16_put_5 (sm_iload_n F dX16_put_8 rfl (sm_i2b F dX16_put_9 (sm_bast F kt_101 dX16_put_10 (sm_aload_n F dX16_put_11 rfl (sm_dup F dX16_put_12 (sm_getI F cls_16 (k := 38) rfl (by decide) rfl q1785 (fun _ h => h) dX16_put_13 (sm_iconst F dX16_put_16 (by unfold inI; omega) (sm_iadd F dX16_put_17 (sm_putI F cls_16 (k := 38) rfl (by decide) rfl rfl rfl q1785 (fun _ h => h) dX16_put_18 (sm_vret F hr hlocks dX16_put_21))))))))))))))
set_option maxHeartbeats 4000000 in
theorem met_X16_putSize (l : Launch) : pmMet l G pmcl pmft pmkt pmNW pmFW XE pmXN lo H0 yX16_putSize (ws_ yX16_putSize cX16_putSize 5 none) 1 21 2 P_X16_putSize := by
  refine pmMet.of (by decide +kernel) (by decide) ?_
  intro p e s m args below meth c R E hfr hlc F X hr hlocks hexc hnm
  refine wp_sim (V := fun b => pmV p l e R s m args below meth c G lo H0 5 pmcl pmft (vy_MQ below (pmQc G pmcl pmft lo H0 E) (pmXC G pmcl pmft pmXN lo H0 E) args s R.cells R.slots (fun q => lo ≤ q)) ((fun b => match b with | 0 => 0 | 1 => 13 | 2 => 20 | 3 => 28 | 4 => 62 | _ => 65 : Nat → Nat) b)) ?_ 0
  intro b Y hY
  match b with
  | 0 =>
    show pm_le _ (pmV p l e R s m args below meth c G lo H0 5 pmcl pmft (vy_MQ below (pmQc G pmcl pmft lo H0 E) (pmXC G pmcl pmft pmXN lo H0 E) args s R.cells R.slots (fun q => lo ≤ q)) 0)
    exact (sm_aload_n F dX16_putSize_0 rfl (sm_getIN F cls_17 (k := 2) rfl (by decide) rfl (X.1.1 _ nw_q1664).2 (fun _ h => h) dX16_putSize_1 (sm_ifne F (tgt := 13) dX16_putSize_4 (by decide) (hY 1) (sm_aload_n F dX16_putSize_7 rfl (sm_bipush F dX16_putSize_8 ⟨by unfold inI; omega, by decide⟩ (sm_callV F X (met_X16_put l) cls_16 (fun _ _ => cwV 1 F.1.2.2.2.2 (lw_V q2233 q2235 qs72 q118 q2236) rfl rfl rfl (by decide +kernel) ⟨by rw [hfr]; exact Nat.le_of_ble_eq_true rfl, by rw [hlc]; exact Nat.le_of_ble_eq_true rfl⟩) dX16_putSize_10 (hY 1) sx_none))))))
  | 1 =>
    show pm_le _ (pmV p l e R s m args below meth c G lo H0 5 pmcl pmft (vy_MQ below (pmQc G pmcl pmft lo H0 E) (pmXC G pmcl pmft pmXN lo H0 E) args s R.cells R.slots (fun q => lo ≤ q)) 13)
    exact (sm_aload_n F dX16_putSize_13 rfl (sm_getIN F cls_17 (k := 2) rfl (by decide) rfl (X.1.1 _ nw_q1664).2 (fun _ h => h) dX16_putSize_14 (sm_iconst F dX16_putSize_17 (by unfold inI; omega) (sm_isub F dX16_putSize_18 (sm_istore_n F dX16_putSize_19 rfl (by decide) (hY 2))))))
  | 2 =>
    show pm_le _ (pmV p l e R s m args below meth c G lo H0 5 pmcl pmft (vy_MQ below (pmQc G pmcl pmft lo H0 E) (pmXC G pmcl pmft pmXN lo H0 E) args s R.cells R.slots (fun q => lo ≤ q)) 20)
    exact (sm_iload_n F dX16_putSize_20 rfl (sm_iflt F (tgt := 105) dX16_putSize_21 (by decide) (sm_vret F hr hlocks dX16_putSize_105) (sm_ldcw F dX16_putSize_24 (by unfold inI; omega) q2245 (sm_istore_n F dX16_putSize_27 rfl (by decide) (hY 3)))))
  | 3 =>
    show pm_le _ (pmV p l e R s m args below meth c G lo H0 5 pmcl pmft (vy_MQ below (pmQc G pmcl pmft lo H0 E) (pmXC G pmcl pmft pmXN lo H0 E) args s R.cells R.slots (fun q => lo ≤ q)) 28)
    exact (sm_iload_n F dX16_putSize_28 rfl (sm_aload_n F dX16_putSize_29 rfl (sm_getIN F cls_17 (k := 2) rfl (by decide) rfl (X.1.1 _ nw_q1664).2 (fun _ h => h) dX16_putSize_30 (sm_iconst F dX16_putSize_33 (by unfold inI; omega) (sm_isub F dX16_putSize_34 (sm_cmpne F (tgt := 62) dX16_putSize_35 (by decide) (hY 4) (sm_iload_n F dX16_putSize_38 rfl (sm_iconst F dX16_putSize_39 (by unfold inI; omega) (sm_cmple F (tgt := 62) dX16_putSize_40 (by decide) (hY 4) (sm_aload_n F dX16_putSize_43 rfl (sm_getRN F cls_17 (k := 0) rfl (by decide) rfl (X.1.1 _ nw_q1659).2 (fun _ h => h) dX16_putSize_44 (sm_iload_n F dX16_putSize_47 rfl (sm_iald F kt_100 dX16_putSize_48 (sm_iload_n F dX16_putSize_49 rfl (sm_idiv F dX16_putSize_50 (sm_ifne F (tgt := 62) dX16_putSize_51 (by decide) (hY 4) (sm_iload_n F dX16_putSize_54 rfl (sm_bipush F dX16_putSize_55 ⟨by unfold inI; omega, by decide⟩ (sm_idiv F dX16_putSize_57 (sm_istore_n F dX16_putSize_58 rfl (by decide) (sm_goto F (tgt := 28) dX16_putSize_59 (by decide) (hY 3))))))))))))))))))))))
  | 4 =>
    show pm_le _ (pmV p l e R s m args below meth c G lo H0 5 pmcl pmft (vy_MQ below (pmQc G pmcl pmft lo H0 E) (pmXC G pmcl pmft pmXN lo H0 E) args s R.cells R.slots (fun q => lo ≤ q)) 62)
    exact (sm_iload_n F dX16_putSize_62 rfl (sm_istore F dX16_putSize_63 (by decide) (sm_kil (hY 5))))
  | z + 5 =>
    show pm_le _ (pmV p l e R s m args below meth c G lo H0 5 pmcl pmft (vy_MQ below (pmQc G pmcl pmft lo H0 E) (pmXC G pmcl pmft pmXN lo H0 E) args s R.cells R.slots (fun q => lo ≤ q)) 65)
    exact (sm_iload F dX16_putSize_65 (sm_ifle F (tgt := 99) dX16_putSize_67 (by decide) (sm_iinc F dX16_putSize_99 (by decide) (sm_goto F (tgt := 20) dX16_putSize_102 (by decide) (sm_kil (hY 2)))) (sm_aload_n F dX16_putSize_70 rfl (sm_bipush F dX16_putSize_71 ⟨by unfold inI; omega, by decide⟩ (sm_aload_n F dX16_putSize_73 rfl (sm_getRN F cls_17 (k := 0) rfl (by decide) rfl (X.1.1 _ nw_q1659).2 (fun _ h => h) dX16_putSize_74 (sm_iload_n F dX16_putSize_77 rfl (sm_iald F kt_100 dX16_putSize_78 (sm_iload F dX16_putSize_79 (sm_idiv F dX16_putSize_81 (sm_bipush F dX16_putSize_82 ⟨by unfold inI; omega, by decide⟩ (sm_irem F dX16_putSize_84 (sm_iadd F dX16_putSize_85 (sm_callV F X (met_X16_put l) cls_16 (fun _ _ => cwV 1 F.1.2.2.2.2 (lw_V q2233 q2235 qs72 q118 q2236) rfl rfl rfl (by decide +kernel) ⟨by rw [hfr]; exact Nat.le_of_ble_eq_true rfl, by rw [hlc]; exact Nat.le_of_ble_eq_true rfl⟩) dX16_putSize_86 (sm_iload F dX16_putSize_89 (sm_bipush F dX16_putSize_91 ⟨by unfold inI; omega, by decide⟩ (sm_idiv F dX16_putSize_93 (sm_istore F dX16_putSize_94 (by decide) (sm_goto F (tgt := 65) dX16_putSize_96 (by decide) (hY 5)))))) sx_none))))))))))))))
set_option maxHeartbeats 4000000 in
theorem met_X16_letter (l : Launch) : pmMet l G pmcl pmft pmkt pmNW pmFW XE pmXN lo H0 yX16_letter (ws_ yX16_letter cX16_letter 2 (some .int)) 1 21 2 P_X16_letter := by
  refine pmMet.of (by decide +kernel) (by decide) ?_
  intro p e s m args below meth c R E hfr hlc F X hr hlocks hexc hnm
  refine wp_sim (V := fun b => pmV p l e R s m args below meth c G lo H0 2 pmcl pmft (vy_MQ below (pmQc G pmcl pmft lo H0 E) (pmXC G pmcl pmft pmXN lo H0 E) args s R.cells R.slots (fun q => lo ≤ q)) ((fun b => match b with | 0 => 0 | 1 => 21 | _ => 27 : Nat → Nat) b)) ?_ 0
  intro b Y hY
  match b with
  | 0 =>
    show pm_le _ (pmV p l e R s m args below meth c G lo H0 2 pmcl pmft (vy_MQ below (pmQc G pmcl pmft lo H0 E) (pmXC G pmcl pmft pmXN lo H0 E) args s R.cells R.slots (fun q => lo ≤ q)) 0)
    exact (sm_iload_n F dX16_letter_0 rfl (sm_iflt F (tgt := 21) dX16_letter_1 (by decide) (sm_kil (hY 1)) (sm_iload_n F dX16_letter_4 rfl (sm_aload_n F dX16_letter_5 rfl (sm_getI F cls_16 (k := 38) rfl (by decide) rfl q1785 (fun _ h => h) dX16_letter_6 (sm_cmpge F (tgt := 21) dX16_letter_9 (by decide) (sm_kil (hY 1)) (sm_aload_n F dX16_letter_12 rfl (sm_getR F cls_16 (k := 37) rfl (by decide) rfl q1784 (fun _ h => h) dX16_letter_13 (sm_iload_n F dX16_letter_16 rfl (sm_bald F kt_101 dX16_letter_17 (sm_goto F (tgt := 27) dX16_letter_18 (by decide) (sm_kil (hY 2)))))))))))))
  | 1 =>
    show pm_le _ (pmV p l e R s m args below meth c G lo H0 2 pmcl pmft (vy_MQ below (pmQc G pmcl pmft lo H0 E) (pmXC G pmcl pmft pmXN lo H0 E) args s R.cells R.slots (fun q => lo ≤ q)) 21)
    exact (sm_aload_n F dX16_letter_21 rfl (sm_bipush F dX16_letter_22 ⟨by unfold inI; omega, by decide⟩ (sm_callV F X (met_X16_answer l) cls_16 (fun _ _ => cwV 1 F.1.2.2.2.2 (lw_V q2036 q2038 qs57 q118 q2039) rfl rfl rfl (by decide +kernel) ⟨by rw [hfr]; exact Nat.le_of_ble_eq_true rfl, by rw [hlc]; exact Nat.le_of_ble_eq_true rfl⟩) dX16_letter_24 (sm_kil (hY 2)) sx_none)))
  | z + 2 =>
    show pm_le _ (pmV p l e R s m args below meth c G lo H0 2 pmcl pmft (vy_MQ below (pmQc G pmcl pmft lo H0 E) (pmXC G pmcl pmft pmXN lo H0 E) args s R.cells R.slots (fun q => lo ≤ q)) 27)
    exact (sm_iret F hr hlocks dX16_letter_27)
set_option maxHeartbeats 4000000 in
theorem met_X16_unrow (l : Launch) : pmMet l G pmcl pmft pmkt pmNW pmFW XE pmXN lo H0 yX16_unrow (ws_ yX16_unrow cX16_unrow 2 (some .int)) 0 0 1 P_X16_unrow := by
  refine pmMet.of (by decide +kernel) (by decide) ?_
  intro p e s m args below meth c R E hfr hlc F X hr hlocks hexc hnm
  refine wp_sim (V := fun b => pmV p l e R s m args below meth c G lo H0 2 pmcl pmft (vy_MQ below (pmQc G pmcl pmft lo H0 E) (pmXC G pmcl pmft pmXN lo H0 E) args s R.cells R.slots (fun q => lo ≤ q)) ((fun b => match b with | _ => 0 : Nat → Nat) b)) ?_ 0
  intro b Y hY
  match b with
  | _ =>
    show pm_le _ (pmV p l e R s m args below meth c G lo H0 2 pmcl pmft (vy_MQ below (pmQc G pmcl pmft lo H0 E) (pmXC G pmcl pmft pmXN lo H0 E) args s R.cells R.slots (fun q => lo ≤ q)) 0)
    exact (sm_aload_n F dX16_unrow_0 rfl (sm_getI F cls_16 (k := 23) rfl (by decide) rfl q1770 (fun _ h => h) dX16_unrow_1 (sm_istore_n F dX16_unrow_4 rfl (by decide) (sm_aload_n F dX16_unrow_5 rfl (sm_iconst F dX16_unrow_6 (by unfold inI; omega) (sm_putI F cls_16 (k := 23) rfl (by decide) rfl rfl rfl q1770 (fun _ h => h) dX16_unrow_7 (sm_iload_n F dX16_unrow_10 rfl (sm_iret F hr hlocks dX16_unrow_11))))))))
set_option maxHeartbeats 4000000 in
theorem met_X16_divides (l : Launch) : pmMet l G pmcl pmft pmkt pmNW pmFW XE pmXN lo H0 yX16_divides (ws_ yX16_divides cX16_divides 2 (some .boolean)) 1 21 2 P_X16_divides := by
  refine pmMet.of (by decide +kernel) (by decide) ?_
  intro p e s m args below meth c R E hfr hlc F X hr hlocks hexc hnm
  refine wp_sim (V := fun b => pmV p l e R s m args below meth c G lo H0 2 pmcl pmft (vy_MQ below (pmQc G pmcl pmft lo H0 E) (pmXC G pmcl pmft pmXN lo H0 E) args s R.cells R.slots (fun q => lo ≤ q)) ((fun b => match b with | 0 => 0 | 1 => 43 | _ => 44 : Nat → Nat) b)) ?_ 0
  intro b Y hY
  match b with
  | 0 =>
    show pm_le _ (pmV p l e R s m args below meth c G lo H0 2 pmcl pmft (vy_MQ below (pmQc G pmcl pmft lo H0 E) (pmXC G pmcl pmft pmXN lo H0 E) args s R.cells R.slots (fun q => lo ≤ q)) 0)
    exact (sm_iload_n F dX16_divides_0 rfl (sm_iconst F dX16_divides_1 (by unfold inI; omega) (sm_callS F X (met_X16_exponent l) (fun _ _ => va_cwS 2 F.1.2.2.2.2 (lw_S q2067 q2068 q118 q2069) rfl rfl rfl (by decide +kernel) ⟨by rw [hfr]; exact Nat.le_of_ble_eq_true rfl, by rw [hlc]; exact Nat.le_of_ble_eq_true rfl⟩) dX16_divides_2 (sm_iload_n F dX16_divides_5 rfl (sm_iconst F dX16_divides_6 (by unfold inI; omega) (sm_callS F X (met_X16_exponent l) (fun _ _ => va_cwS 2 F.1.2.2.2.2 (lw_S q2067 q2068 q118 q2069) rfl rfl rfl (by decide +kernel) ⟨by rw [hfr]; exact Nat.le_of_ble_eq_true rfl, by rw [hlc]; exact Nat.le_of_ble_eq_true rfl⟩) dX16_divides_7 (sm_cmpgt F (tgt := 43) dX16_divides_10 (by decide) (sm_kil (hY 1)) (sm_iload_n F dX16_divides_13 rfl (sm_iconst F dX16_divides_14 (by unfold inI; omega) (sm_callS F X (met_X16_exponent l) (fun _ _ => va_cwS 2 F.1.2.2.2.2 (lw_S q2067 q2068 q118 q2069) rfl rfl rfl (by decide +kernel) ⟨by rw [hfr]; exact Nat.le_of_ble_eq_true rfl, by rw [hlc]; exact Nat.le_of_ble_eq_true rfl⟩) dX16_divides_15 (sm_iload_n F dX16_divides_18 rfl (sm_iconst F dX16_divides_19 (by unfold inI; omega) (sm_callS F X (met_X16_exponent l) (fun _ _ => va_cwS 2 F.1.2.2.2.2 (lw_S q2067 q2068 q118 q2069) rfl rfl rfl (by decide +kernel) ⟨by rw [hfr]; exact Nat.le_of_ble_eq_true rfl, by rw [hlc]; exact Nat.le_of_ble_eq_true rfl⟩) dX16_divides_20 (sm_cmpgt F (tgt := 43) dX16_divides_23 (by decide) (sm_kil (hY 1)) (sm_iload_n F dX16_divides_26 rfl (sm_iconst F dX16_divides_27 (by unfold inI; omega) (sm_callS F X (met_X16_exponent l) (fun _ _ => va_cwS 2 F.1.2.2.2.2 (lw_S q2067 q2068 q118 q2069) rfl rfl rfl (by decide +kernel) ⟨by rw [hfr]; exact Nat.le_of_ble_eq_true rfl, by rw [hlc]; exact Nat.le_of_ble_eq_true rfl⟩) dX16_divides_28 (sm_iload_n F dX16_divides_31 rfl (sm_iconst F dX16_divides_32 (by unfold inI; omega) (sm_callS F X (met_X16_exponent l) (fun _ _ => va_cwS 2 F.1.2.2.2.2 (lw_S q2067 q2068 q118 q2069) rfl rfl rfl (by decide +kernel) ⟨by rw [hfr]; exact Nat.le_of_ble_eq_true rfl, by rw [hlc]; exact Nat.le_of_ble_eq_true rfl⟩) dX16_divides_33 (sm_cmpgt F (tgt := 43) dX16_divides_36 (by decide) (sm_kil (hY 1)) (sm_iconst F dX16_divides_39 (by unfold inI; omega) (sm_goto F (tgt := 44) dX16_divides_40 (by decide) (sm_kil (hY 2))))) sx_none))) sx_none)))) sx_none))) sx_none)))) sx_none))) sx_none)))
  | 1 =>
    show pm_le _ (pmV p l e R s m args below meth c G lo H0 2 pmcl pmft (vy_MQ below (pmQc G pmcl pmft lo H0 E) (pmXC G pmcl pmft pmXN lo H0 E) args s R.cells R.slots (fun q => lo ≤ q)) 43)
    exact (sm_iconst F dX16_divides_43 (by unfold inI; omega) (hY 2))
  | z + 2 =>
    show pm_le _ (pmV p l e R s m args below meth c G lo H0 2 pmcl pmft (vy_MQ below (pmQc G pmcl pmft lo H0 E) (pmXC G pmcl pmft pmXN lo H0 E) args s R.cells R.slots (fun q => lo ≤ q)) 44)
    exact (sm_zret F hr hlocks dX16_divides_44)
set_option maxHeartbeats 4000000 in
theorem met_X16_unideal (l : Launch) : pmMet l G pmcl pmft pmkt pmNW pmFW XE pmXN lo H0 yX16_unideal (ws_ yX16_unideal cX16_unideal 2 (some .int)) 0 0 1 P_X16_unideal := by
  refine pmMet.of (by decide +kernel) (by decide) ?_
  intro p e s m args below meth c R E hfr hlc F X hr hlocks hexc hnm
  refine wp_sim (V := fun b => pmV p l e R s m args below meth c G lo H0 2 pmcl pmft (vy_MQ below (pmQc G pmcl pmft lo H0 E) (pmXC G pmcl pmft pmXN lo H0 E) args s R.cells R.slots (fun q => lo ≤ q)) ((fun b => match b with | _ => 0 : Nat → Nat) b)) ?_ 0
  intro b Y hY
  match b with
  | _ =>
    show pm_le _ (pmV p l e R s m args below meth c G lo H0 2 pmcl pmft (vy_MQ below (pmQc G pmcl pmft lo H0 E) (pmXC G pmcl pmft pmXN lo H0 E) args s R.cells R.slots (fun q => lo ≤ q)) 0)
    exact (sm_aload_n F dX16_unideal_0 rfl (sm_getI F cls_16 (k := 31) rfl (by decide) rfl q1778 (fun _ h => h) dX16_unideal_1 (sm_istore_n F dX16_unideal_4 rfl (by decide) (sm_aload_n F dX16_unideal_5 rfl (sm_iconst F dX16_unideal_6 (by unfold inI; omega) (sm_putI F cls_16 (k := 31) rfl (by decide) rfl rfl rfl q1778 (fun _ h => h) dX16_unideal_7 (sm_iload_n F dX16_unideal_10 rfl (sm_iret F hr hlocks dX16_unideal_11))))))))
set_option maxHeartbeats 4000000 in
theorem met_X16_leadOf (l : Launch) : pmMet l G pmcl pmft pmkt pmNW pmFW XE pmXN lo H0 yX16_leadOf (ws_ yX16_leadOf cX16_leadOf 2 (some .int)) 0 0 2 P_X16_leadOf := by
  refine pmMet.of (by decide +kernel) (by decide) ?_
  intro p e s m args below meth c R E hfr hlc F X hr hlocks hexc hnm
  refine wp_sim (V := fun b => pmV p l e R s m args below meth c G lo H0 2 pmcl pmft (vy_MQ below (pmQc G pmcl pmft lo H0 E) (pmXC G pmcl pmft pmXN lo H0 E) args s R.cells R.slots (fun q => lo ≤ q)) ((fun b => match b with | _ => 0 : Nat → Nat) b)) ?_ 0
  intro b Y hY
  match b with
  | _ =>
    show pm_le _ (pmV p l e R s m args below meth c G lo H0 2 pmcl pmft (vy_MQ below (pmQc G pmcl pmft lo H0 E) (pmXC G pmcl pmft pmXN lo H0 E) args s R.cells R.slots (fun q => lo ≤ q)) 0)
    exact (sm_aload_n F dX16_leadOf_0 rfl (sm_getR F cls_16 (k := 50) rfl (by decide) rfl q1797 (fun _ h => h) dX16_leadOf_1 (sm_aload_n F dX16_leadOf_4 rfl (sm_getR F cls_16 (k := 56) rfl (by decide) rfl q1803 (fun _ h => h) dX16_leadOf_5 (sm_aload_n F dX16_leadOf_8 rfl (sm_getR F cls_16 (k := 59) rfl (by decide) rfl q1806 (fun _ h => h) dX16_leadOf_9 (sm_iload_n F dX16_leadOf_12 rfl (sm_iald F kt_100 dX16_leadOf_13 (sm_iald F kt_100 dX16_leadOf_14 (sm_iald F kt_100 dX16_leadOf_15 (sm_iret F hr hlocks dX16_leadOf_16)))))))))))
set_option maxHeartbeats 4000000 in
theorem met_X16_without (l : Launch) : pmMet l G pmcl pmft pmkt pmNW pmFW XE pmXN lo H0 yX16_without (ws_ yX16_without cX16_without 6 (some .int)) 1 21 2 P_X16_without := by
  refine pmMet.of (by decide +kernel) (by decide) ?_
  intro p e s m args below meth c R E hfr hlc F X hr hlocks hexc hnm
  refine wp_sim (V := fun b => pmV p l e R s m args below meth c G lo H0 6 pmcl pmft (vy_MQ below (pmQc G pmcl pmft lo H0 E) (pmXC G pmcl pmft pmXN lo H0 E) args s R.cells R.slots (fun q => lo ≤ q)) ((fun b => match b with | 0 => 0 | 1 => 17 | 2 => 32 | 3 => 36 | 4 => 40 | 5 => 54 | 6 => 116 | 7 => 120 | 8 => 121 | _ => 140 : Nat → Nat) b)) ?_ 0
  intro b Y hY
  match b with
  | 0 =>
    show pm_le _ (pmV p l e R s m args below meth c G lo H0 6 pmcl pmft (vy_MQ below (pmQc G pmcl pmft lo H0 E) (pmXC G pmcl pmft pmXN lo H0 E) args s R.cells R.slots (fun q => lo ≤ q)) 0)
    exact (sm_aload_n F dX16_without_0 rfl (sm_getI F cls_16 (k := 44) rfl (by decide) rfl q1791 (fun _ h => h) dX16_without_1 (sm_ifeq F (tgt := 17) dX16_without_4 (by decide) (sm_kil (hY 1)) (sm_iload_n F dX16_without_7 rfl (sm_iconst F dX16_without_8 (by unfold inI; omega) (sm_cmpeq F (tgt := 36) dX16_without_9 (by decide) (hY 3) (sm_iload_n F dX16_without_12 rfl (sm_iconst F dX16_without_13 (by unfold inI; omega) (sm_cmpeq F (tgt := 36) dX16_without_14 (by decide) (hY 3) (sm_kil (hY 1)))))))))))
  | 1 =>
    show pm_le _ (pmV p l e R s m args below meth c G lo H0 6 pmcl pmft (vy_MQ below (pmQc G pmcl pmft lo H0 E) (pmXC G pmcl pmft pmXN lo H0 E) args s R.cells R.slots (fun q => lo ≤ q)) 17)
    exact (sm_aload_n F dX16_without_17 rfl (sm_aload_n F dX16_without_18 rfl (sm_getI F cls_16 (k := 44) rfl (by decide) rfl q1791 (fun _ h => h) dX16_without_19 (sm_ifne F (tgt := 30) dX16_without_22 (by decide) (sm_bipush F dX16_without_30 ⟨by unfold inI; omega, by decide⟩ (sm_kil (hY 2))) (sm_bipush F dX16_without_25 ⟨by unfold inI; omega, by decide⟩ (sm_goto F (tgt := 32) dX16_without_27 (by decide) (sm_kil (hY 2))))))))
  | 2 =>
    show pm_le _ (pmV p l e R s m args below meth c G lo H0 6 pmcl pmft (vy_MQ below (pmQc G pmcl pmft lo H0 E) (pmXC G pmcl pmft pmXN lo H0 E) args s R.cells R.slots (fun q => lo ≤ q)) 32)
    exact (sm_callV F X (met_X16_answer l) cls_16 (fun _ _ => cwV 1 F.1.2.2.2.2 (lw_V q2036 q2038 qs57 q118 q2039) rfl rfl rfl (by decide +kernel) ⟨by rw [hfr]; exact Nat.le_of_ble_eq_true rfl, by rw [hlc]; exact Nat.le_of_ble_eq_true rfl⟩) dX16_without_32 (sm_iret F hr hlocks dX16_without_35) sx_none)
  | 3 =>
    show pm_le _ (pmV p l e R s m args below meth c G lo H0 6 pmcl pmft (vy_MQ below (pmQc G pmcl pmft lo H0 E) (pmXC G pmcl pmft pmXN lo H0 E) args s R.cells R.slots (fun q => lo ≤ q)) 36)
    exact (sm_iconst F dX16_without_36 (by unfold inI; omega) (sm_istore_n F dX16_without_37 rfl (by decide) (sm_iconst F dX16_without_38 (by unfold inI; omega) (sm_istore_n F dX16_without_39 rfl (by decide) (hY 4)))))
  | 4 =>
    show pm_le _ (pmV p l e R s m args below meth c G lo H0 6 pmcl pmft (vy_MQ below (pmQc G pmcl pmft lo H0 E) (pmXC G pmcl pmft pmXN lo H0 E) args s R.cells R.slots (fun q => lo ≤ q)) 40)
    exact (sm_iload_n F dX16_without_40 rfl (sm_aload_n F dX16_without_41 rfl (sm_getI F cls_16 (k := 57) rfl (by decide) rfl q1804 (fun _ h => h) dX16_without_42 (sm_cmpge F (tgt := 148) dX16_without_45 (by decide) (sm_iload_n F dX16_without_148 rfl (sm_iret F hr hlocks dX16_without_149)) (sm_iconst F dX16_without_48 (by unfold inI; omega) (sm_istore F dX16_without_49 (by decide) (sm_iconst F dX16_without_51 (by unfold inI; omega) (sm_istore F dX16_without_52 (by decide) (hY 5)))))))))
  | 5 =>
    show pm_le _ (pmV p l e R s m args below meth c G lo H0 6 pmcl pmft (vy_MQ below (pmQc G pmcl pmft lo H0 E) (pmXC G pmcl pmft pmXN lo H0 E) args s R.cells R.slots (fun q => lo ≤ q)) 54)
    exact (sm_iload F dX16_without_54 (sm_aload_n F dX16_without_56 rfl (sm_getR F cls_16 (k := 58) rfl (by decide) rfl q1805 (fun _ h => h) dX16_without_57 (sm_iload_n F dX16_without_60 rfl (sm_aald F (by decide) kt_116 rfl dX16_without_61 (sm_getIN F cls_18 (k := 0) rfl (by decide) rfl (X.1.1 _ nw_q1690).2 (fun _ h => h) dX16_without_62 (sm_cmpge F (tgt := 129) dX16_without_65 (by decide) (sm_iload_n F dX16_without_129 rfl (sm_iload F dX16_without_130 (sm_ifeq F (tgt := 139) dX16_without_132 (by decide) (sm_iconst F dX16_without_139 (by unfold inI; omega) (sm_kil (hY 9))) (sm_iconst F dX16_without_135 (by unfold inI; omega) (sm_goto F (tgt := 140) dX16_without_136 (by decide) (sm_kil (hY 9))))))) (sm_iload F dX16_without_68 (sm_ifeq F (tgt := 120) dX16_without_70 (by decide) (sm_kil (hY 7)) (sm_aload_n F dX16_without_73 rfl (sm_getR F cls_16 (k := 58) rfl (by decide) rfl q1805 (fun _ h => h) dX16_without_74 (sm_iload_n F dX16_without_77 rfl (sm_aald F (by decide) kt_116 rfl dX16_without_78 (sm_getRN F cls_18 (k := 1) rfl (by decide) rfl (X.1.1 _ nw_q1693).2 (fun _ h => h) dX16_without_79 (sm_iload F dX16_without_82 (sm_iald F kt_100 dX16_without_84 (sm_iconst F dX16_without_85 (by unfold inI; omega) (sm_callS F X (met_X16_exponent l) (fun _ _ => va_cwS 2 F.1.2.2.2.2 (lw_S q2067 q2068 q118 q2069) rfl rfl rfl (by decide +kernel) ⟨by rw [hfr]; exact Nat.le_of_ble_eq_true rfl, by rw [hlc]; exact Nat.le_of_ble_eq_true rfl⟩) dX16_without_86 (sm_ifne F (tgt := 120) dX16_without_89 (by decide) (sm_kil (hY 7)) (sm_iload_n F dX16_without_92 rfl (sm_iconst F dX16_without_93 (by unfold inI; omega) (sm_cmpeq F (tgt := 116) dX16_without_94 (by decide) (sm_kil (hY 6)) (sm_aload_n F dX16_without_97 rfl (sm_getR F cls_16 (k := 58) rfl (by decide) rfl q1805 (fun _ h => h) dX16_without_98 (sm_iload_n F dX16_without_101 rfl (sm_aald F (by decide) kt_116 rfl dX16_without_102 (sm_getRN F cls_18 (k := 1) rfl (by decide) rfl (X.1.1 _ nw_q1693).2 (fun _ h => h) dX16_without_103 (sm_iload F dX16_without_106 (sm_iald F kt_100 dX16_without_108 (sm_iconst F dX16_without_109 (by unfold inI; omega) (sm_callS F X (met_X16_exponent l) (fun _ _ => va_cwS 2 F.1.2.2.2.2 (lw_S q2067 q2068 q118 q2069) rfl rfl rfl (by decide +kernel) ⟨by rw [hfr]; exact Nat.le_of_ble_eq_true rfl, by rw [hlc]; exact Nat.le_of_ble_eq_true rfl⟩) dX16_without_110 (sm_ifne F (tgt := 120) dX16_without_113 (by decide) (sm_kil (hY 7)) (sm_kil (hY 6))) sx_none))))))))))))) sx_none))))))))))))))))))
  | 6 =>
    show pm_le _ (pmV p l e R s m args below meth c G lo H0 6 pmcl pmft (vy_MQ below (pmQc G pmcl pmft lo H0 E) (pmXC G pmcl pmft pmXN lo H0 E) args s R.cells R.slots (fun q => lo ≤ q)) 116)
    exact (sm_iconst F dX16_without_116 (by unfold inI; omega) (sm_goto F (tgt := 121) dX16_without_117 (by decide) (hY 8)))
  | 7 =>
    show pm_le _ (pmV p l e R s m args below meth c G lo H0 6 pmcl pmft (vy_MQ below (pmQc G pmcl pmft lo H0 E) (pmXC G pmcl pmft pmXN lo H0 E) args s R.cells R.slots (fun q => lo ≤ q)) 120)
    exact (sm_iconst F dX16_without_120 (by unfold inI; omega) (hY 8))
  | 8 =>
    show pm_le _ (pmV p l e R s m args below meth c G lo H0 6 pmcl pmft (vy_MQ below (pmQc G pmcl pmft lo H0 E) (pmXC G pmcl pmft pmXN lo H0 E) args s R.cells R.slots (fun q => lo ≤ q)) 121)
    exact (sm_istore F dX16_without_121 (by decide) (sm_iinc F dX16_without_123 (by decide) (sm_goto F (tgt := 54) dX16_without_126 (by decide) (hY 5))))
  | z + 9 =>
    show pm_le _ (pmV p l e R s m args below meth c G lo H0 6 pmcl pmft (vy_MQ below (pmQc G pmcl pmft lo H0 E) (pmXC G pmcl pmft pmXN lo H0 E) args s R.cells R.slots (fun q => lo ≤ q)) 140)
    exact (sm_iadd F dX16_without_140 (sm_istore_n F dX16_without_141 rfl (by decide) (sm_iinc F dX16_without_142 (by decide) (sm_goto F (tgt := 40) dX16_without_145 (by decide) (hY 4)))))
set_option maxHeartbeats 4000000 in
theorem met_X16_powerOf (l : Launch) : pmMet l G pmcl pmft pmkt pmNW pmFW XE pmXN lo H0 yX16_powerOf (ws_ yX16_powerOf cX16_powerOf 4 (some .int)) 1 21 2 P_X16_powerOf := by
  refine pmMet.of (by decide +kernel) (by decide) ?_
  intro p e s m args below meth c R E hfr hlc F X hr hlocks hexc hnm
  refine wp_sim (V := fun b => pmV p l e R s m args below meth c G lo H0 4 pmcl pmft (vy_MQ below (pmQc G pmcl pmft lo H0 E) (pmXC G pmcl pmft pmXN lo H0 E) args s R.cells R.slots (fun q => lo ≤ q)) ((fun b => match b with | 0 => 0 | 1 => 2 | _ => 9 : Nat → Nat) b)) ?_ 0
  intro b Y hY
  match b with
  | 0 =>
    show pm_le _ (pmV p l e R s m args below meth c G lo H0 4 pmcl pmft (vy_MQ below (pmQc G pmcl pmft lo H0 E) (pmXC G pmcl pmft pmXN lo H0 E) args s R.cells R.slots (fun q => lo ≤ q)) 0)
    exact (sm_iconst F dX16_powerOf_0 (by unfold inI; omega) (sm_istore_n F dX16_powerOf_1 rfl (by decide) (hY 1)))
  | 1 =>
    show pm_le _ (pmV p l e R s m args below meth c G lo H0 4 pmcl pmft (vy_MQ below (pmQc G pmcl pmft lo H0 E) (pmXC G pmcl pmft pmXN lo H0 E) args s R.cells R.slots (fun q => lo ≤ q)) 2)
    exact (sm_iload_n F dX16_powerOf_2 rfl (sm_iconst F dX16_powerOf_3 (by unfold inI; omega) (sm_cmpgt F (tgt := 44) dX16_powerOf_4 (by decide) (sm_iconst F dX16_powerOf_44 (by unfold inI; omega) (sm_iret F hr hlocks dX16_powerOf_45)) (sm_iconst F dX16_powerOf_7 (by unfold inI; omega) (sm_istore_n F dX16_powerOf_8 rfl (by decide) (hY 2))))))
  | z + 2 =>
    show pm_le _ (pmV p l e R s m args below meth c G lo H0 4 pmcl pmft (vy_MQ below (pmQc G pmcl pmft lo H0 E) (pmXC G pmcl pmft pmXN lo H0 E) args s R.cells R.slots (fun q => lo ≤ q)) 9)
    exact (sm_iload_n F dX16_powerOf_9 rfl (sm_aload_n F dX16_powerOf_10 rfl (sm_getI F cls_16 (k := 57) rfl (by decide) rfl q1804 (fun _ h => h) dX16_powerOf_11 (sm_cmpge F (tgt := 38) dX16_powerOf_14 (by decide) (sm_iinc F dX16_powerOf_38 (by decide) (sm_goto F (tgt := 2) dX16_powerOf_41 (by decide) (sm_kil (hY 1)))) (sm_aload_n F dX16_powerOf_17 rfl (sm_iload_n F dX16_powerOf_18 rfl (sm_callV F X (met_X16_leadOf l) cls_16 (fun _ _ => cwV 1 F.1.2.2.2.2 (lw_V q2351 q2353 qs84 q118 q2354) rfl rfl rfl (by decide +kernel) ⟨by rw [hfr]; exact Nat.le_of_ble_eq_true rfl, by rw [hlc]; exact Nat.le_of_ble_eq_true rfl⟩) dX16_powerOf_19 (sm_iload_n F dX16_powerOf_22 rfl (sm_iconst F dX16_powerOf_23 (by unfold inI; omega) (sm_iload_n F dX16_powerOf_24 rfl (sm_imul F dX16_powerOf_25 (sm_ishl F dX16_powerOf_26 (sm_cmpne F (tgt := 32) dX16_powerOf_27 (by decide) (sm_iinc F dX16_powerOf_32 (by decide) (sm_goto F (tgt := 9) dX16_powerOf_35 (by decide) (hY 2))) (sm_iload_n F dX16_powerOf_30 rfl (sm_iret F hr hlocks dX16_powerOf_31)))))))) sx_none)))))))
set_option maxHeartbeats 4000000 in
theorem met_X16_find (l : Launch) : pmMet l G pmcl pmft pmkt pmNW pmFW XE pmXN lo H0 yX16_find (ws_ yX16_find cX16_find 3 (some .int)) 0 0 2 P_X16_find := by
  refine pmMet.of (by decide +kernel) (by decide) ?_
  intro p e s m args below meth c R E hfr hlc F X hr hlocks hexc hnm
  refine wp_sim (V := fun b => pmV p l e R s m args below meth c G lo H0 3 pmcl pmft (vy_MQ below (pmQc G pmcl pmft lo H0 E) (pmXC G pmcl pmft pmXN lo H0 E) args s R.cells R.slots (fun q => lo ≤ q)) ((fun b => match b with | 0 => 0 | _ => 2 : Nat → Nat) b)) ?_ 0
  intro b Y hY
  match b with
  | 0 =>
    show pm_le _ (pmV p l e R s m args below meth c G lo H0 3 pmcl pmft (vy_MQ below (pmQc G pmcl pmft lo H0 E) (pmXC G pmcl pmft pmXN lo H0 E) args s R.cells R.slots (fun q => lo ≤ q)) 0)
    exact (sm_iconst F dX16_find_0 (by unfold inI; omega) (sm_istore_n F dX16_find_1 rfl (by decide) (hY 1)))
  | z + 1 =>
    show pm_le _ (pmV p l e R s m args below meth c G lo H0 3 pmcl pmft (vy_MQ below (pmQc G pmcl pmft lo H0 E) (pmXC G pmcl pmft pmXN lo H0 E) args s R.cells R.slots (fun q => lo ≤ q)) 2)
    exact (sm_iload_n F dX16_find_2 rfl (sm_aload_n F dX16_find_3 rfl (sm_getIN F cls_18 (k := 0) rfl (by decide) rfl (X.1.1 _ nw_q1690).2 (fun _ h => h) dX16_find_4 (sm_cmpge F (tgt := 28) dX16_find_7 (by decide) (sm_iconst F dX16_find_28 (by unfold inI; omega) (sm_iret F hr hlocks dX16_find_29)) (sm_aload_n F dX16_find_10 rfl (sm_getRN F cls_18 (k := 1) rfl (by decide) rfl (X.1.1 _ nw_q1693).2 (fun _ h => h) dX16_find_11 (sm_iload_n F dX16_find_14 rfl (sm_iald F kt_100 dX16_find_15 (sm_iload_n F dX16_find_16 rfl (sm_cmpne F (tgt := 22) dX16_find_17 (by decide) (sm_iinc F dX16_find_22 (by decide) (sm_goto F (tgt := 2) dX16_find_25 (by decide) (hY 1))) (sm_iload_n F dX16_find_20 rfl (sm_iret F hr hlocks dX16_find_21))))))))))))
set_option maxHeartbeats 4000000 in
theorem met_X16_kind (l : Launch) : pmMet l G pmcl pmft pmkt pmNW pmFW XE pmXN lo H0 yX16_kind (ws_ yX16_kind cX16_kind 3 (some .int)) 2 42 2 P_X16_kind := by
  refine pmMet.of (by decide +kernel) (by decide) ?_
  intro p e s m args below meth c R E hfr hlc F X hr hlocks hexc hnm
  refine wp_sim (V := fun b => pmV p l e R s m args below meth c G lo H0 3 pmcl pmft (vy_MQ below (pmQc G pmcl pmft lo H0 E) (pmXC G pmcl pmft pmXN lo H0 E) args s R.cells R.slots (fun q => lo ≤ q)) ((fun b => match b with | 0 => 0 | _ => 25 : Nat → Nat) b)) ?_ 0
  intro b Y hY
  match b with
  | 0 =>
    show pm_le _ (pmV p l e R s m args below meth c G lo H0 3 pmcl pmft (vy_MQ below (pmQc G pmcl pmft lo H0 E) (pmXC G pmcl pmft pmXN lo H0 E) args s R.cells R.slots (fun q => lo ≤ q)) 0)
    exact (sm_aload_n F dX16_kind_0 rfl (sm_iload_n F dX16_kind_1 rfl (sm_iconst F dX16_kind_2 (by unfold inI; omega) (sm_callV F X (met_X16_look l) cls_16 (fun _ _ => cwV 2 F.1.2.2.2.2 (lw_V q2060 q2062 qs59 q118 q2063) rfl rfl rfl (by decide +kernel) ⟨by rw [hfr]; exact Nat.le_of_ble_eq_true rfl, by rw [hlc]; exact Nat.le_of_ble_eq_true rfl⟩) dX16_kind_3 (sm_istore_n F dX16_kind_6 rfl (by decide) (sm_iload_n F dX16_kind_7 rfl (sm_ifge F (tgt := 19) dX16_kind_8 (by decide) (sm_aload_n F dX16_kind_19 rfl (sm_getR F cls_16 (k := 12) rfl (by decide) rfl q1759 (fun _ h => h) dX16_kind_20 (sm_iload_n F dX16_kind_23 rfl (sm_iald F kt_100 dX16_kind_24 (sm_kil (hY 1)))))) (sm_aload_n F dX16_kind_11 rfl (sm_iload_n F dX16_kind_12 rfl (sm_callV F X (met_X16_answer l) cls_16 (fun _ _ => cwV 1 F.1.2.2.2.2 (lw_V q2036 q2038 qs57 q118 q2039) rfl rfl rfl (by decide +kernel) ⟨by rw [hfr]; exact Nat.le_of_ble_eq_true rfl, by rw [hlc]; exact Nat.le_of_ble_eq_true rfl⟩) dX16_kind_13 (sm_goto F (tgt := 25) dX16_kind_16 (by decide) (sm_kil (hY 1))) sx_none)))))) sx_none))))
  | z + 1 =>
    show pm_le _ (pmV p l e R s m args below meth c G lo H0 3 pmcl pmft (vy_MQ below (pmQc G pmcl pmft lo H0 E) (pmXC G pmcl pmft pmXN lo H0 E) args s R.cells R.slots (fun q => lo ≤ q)) 25)
    exact (sm_iret F hr hlocks dX16_kind_25)
set_option maxHeartbeats 4000000 in
theorem met_X16_raise (l : Launch) : pmMet l G pmcl pmft pmkt pmNW pmFW XE pmXN lo H0 yX16_raise (ws_ yX16_raise cX16_raise 3 (some .int)) 2 42 2 P_X16_raise := by
  refine pmMet.of (by decide +kernel) (by decide) ?_
  intro p e s m args below meth c R E hfr hlc F X hr hlocks hexc hnm
  refine wp_sim (V := fun b => pmV p l e R s m args below meth c G lo H0 3 pmcl pmft (vy_MQ below (pmQc G pmcl pmft lo H0 E) (pmXC G pmcl pmft pmXN lo H0 E) args s R.cells R.slots (fun q => lo ≤ q)) ((fun b => match b with | 0 => 0 | _ => 26 : Nat → Nat) b)) ?_ 0
  intro b Y hY
  match b with
  | 0 =>
    show pm_le _ (pmV p l e R s m args below meth c G lo H0 3 pmcl pmft (vy_MQ below (pmQc G pmcl pmft lo H0 E) (pmXC G pmcl pmft pmXN lo H0 E) args s R.cells R.slots (fun q => lo ≤ q)) 0)
    exact (sm_aload_n F dX16_raise_0 rfl (sm_iload_n F dX16_raise_1 rfl (sm_iconst F dX16_raise_2 (by unfold inI; omega) (sm_callV F X (met_X16_look l) cls_16 (fun _ _ => cwV 2 F.1.2.2.2.2 (lw_V q2060 q2062 qs59 q118 q2063) rfl rfl rfl (by decide +kernel) ⟨by rw [hfr]; exact Nat.le_of_ble_eq_true rfl, by rw [hlc]; exact Nat.le_of_ble_eq_true rfl⟩) dX16_raise_3 (sm_istore_n F dX16_raise_6 rfl (by decide) (sm_iload_n F dX16_raise_7 rfl (sm_ifge F (tgt := 19) dX16_raise_8 (by decide) (sm_aload_n F dX16_raise_19 rfl (sm_getR F cls_16 (k := 14) rfl (by decide) rfl q1761 (fun _ h => h) dX16_raise_20 (sm_iload_n F dX16_raise_23 rfl (sm_iald F kt_100 dX16_raise_24 (sm_ineg F dX16_raise_25 (sm_kil (hY 1))))))) (sm_aload_n F dX16_raise_11 rfl (sm_iload_n F dX16_raise_12 rfl (sm_callV F X (met_X16_answer l) cls_16 (fun _ _ => cwV 1 F.1.2.2.2.2 (lw_V q2036 q2038 qs57 q118 q2039) rfl rfl rfl (by decide +kernel) ⟨by rw [hfr]; exact Nat.le_of_ble_eq_true rfl, by rw [hlc]; exact Nat.le_of_ble_eq_true rfl⟩) dX16_raise_13 (sm_goto F (tgt := 26) dX16_raise_16 (by decide) (sm_kil (hY 1))) sx_none)))))) sx_none))))
  | z + 1 =>
    show pm_le _ (pmV p l e R s m args below meth c G lo H0 3 pmcl pmft (vy_MQ below (pmQc G pmcl pmft lo H0 E) (pmXC G pmcl pmft pmXN lo H0 E) args s R.cells R.slots (fun q => lo ≤ q)) 26)
    exact (sm_iret F hr hlocks dX16_raise_26)
set_option maxHeartbeats 4000000 in
theorem met_X16_found (l : Launch) : pmMet l G pmcl pmft pmkt pmNW pmFW XE pmXN lo H0 yX16_found (ws_ yX16_found cX16_found 2 (some .int)) 1 21 2 P_X16_found := by
  refine pmMet.of (by decide +kernel) (by decide) ?_
  intro p e s m args below meth c R E hfr hlc F X hr hlocks hexc hnm
  refine wp_sim (V := fun b => pmV p l e R s m args below meth c G lo H0 2 pmcl pmft (vy_MQ below (pmQc G pmcl pmft lo H0 E) (pmXC G pmcl pmft pmXN lo H0 E) args s R.cells R.slots (fun q => lo ≤ q)) ((fun b => match b with | 0 => 0 | 1 => 20 | _ => 26 : Nat → Nat) b)) ?_ 0
  intro b Y hY
  match b with
  | 0 =>
    show pm_le _ (pmV p l e R s m args below meth c G lo H0 2 pmcl pmft (vy_MQ below (pmQc G pmcl pmft lo H0 E) (pmXC G pmcl pmft pmXN lo H0 E) args s R.cells R.slots (fun q => lo ≤ q)) 0)
    exact (sm_iload_n F dX16_found_0 rfl (sm_ifge F (tgt := 20) dX16_found_1 (by decide) (sm_kil (hY 1)) (sm_iload_n F dX16_found_4 rfl (sm_bipush F dX16_found_5 ⟨by unfold inI; omega, by decide⟩ (sm_cmplt F (tgt := 20) dX16_found_7 (by decide) (sm_kil (hY 1)) (sm_aload_n F dX16_found_10 rfl (sm_getR F cls_16 (k := 21) rfl (by decide) rfl q1768 (fun _ h => h) dX16_found_11 (sm_iload_n F dX16_found_14 rfl (sm_ineg F dX16_found_15 (sm_iald F kt_100 dX16_found_16 (sm_goto F (tgt := 26) dX16_found_17 (by decide) (sm_kil (hY 2)))))))))))))
  | 1 =>
    show pm_le _ (pmV p l e R s m args below meth c G lo H0 2 pmcl pmft (vy_MQ below (pmQc G pmcl pmft lo H0 E) (pmXC G pmcl pmft pmXN lo H0 E) args s R.cells R.slots (fun q => lo ≤ q)) 20)
    exact (sm_aload_n F dX16_found_20 rfl (sm_bipush F dX16_found_21 ⟨by unfold inI; omega, by decide⟩ (sm_callV F X (met_X16_answer l) cls_16 (fun _ _ => cwV 1 F.1.2.2.2.2 (lw_V q2036 q2038 qs57 q118 q2039) rfl rfl rfl (by decide +kernel) ⟨by rw [hfr]; exact Nat.le_of_ble_eq_true rfl, by rw [hlc]; exact Nat.le_of_ble_eq_true rfl⟩) dX16_found_23 (sm_kil (hY 2)) sx_none)))
  | z + 2 =>
    show pm_le _ (pmV p l e R s m args below meth c G lo H0 2 pmcl pmft (vy_MQ below (pmQc G pmcl pmft lo H0 E) (pmXC G pmcl pmft pmXN lo H0 E) args s R.cells R.slots (fun q => lo ≤ q)) 26)
    exact (sm_iret F hr hlocks dX16_found_26)
set_option maxHeartbeats 4000000 in
theorem met_X17_init (l : Launch) : pmMet l G pmcl pmft pmkt pmNW pmFW XE pmXN lo H0 yX17_init (ws_ yX17_init cX17_init 2 none) 1 20 2 P_X17_init := by
  refine pmMet.of (by decide +kernel) (by decide) ?_
  intro p e s m args below meth c R E hfr hlc F X hr hlocks hexc hnm
  refine wp_sim (V := fun b => pmV p l e R s m args below meth c G lo H0 2 pmcl pmft (vy_MQ below (pmQc G pmcl pmft lo H0 E) (pmXC G pmcl pmft pmXN lo H0 E) args s R.cells R.slots (fun q => lo ≤ q)) ((fun b => match b with | _ => 0 : Nat → Nat) b)) ?_ 0
  intro b Y hY
  match b with
  | _ =>
    show pm_le _ (pmV p l e R s m args below meth c G lo H0 2 pmcl pmft (vy_MQ below (pmQc G pmcl pmft lo H0 E) (pmXC G pmcl pmft pmXN lo H0 E) args s R.cells R.slots (fun q => lo ≤ q)) 0)
    exact (sm_aload_n F dX17_init_0 rfl (sm_objinit F q1657 q141 q142 (by rw [hfr]; exact Nat.le_of_ble_eq_true rfl) (by rw [hlc]; exact Nat.le_of_ble_eq_true rfl) dX17_init_1 (sm_aload_n F dX17_init_4 rfl (sm_iload_n F dX17_init_5 rfl (sm_newa (atype := .int) (ty := .int) F rfl (Or.inl ⟨by decide, rfl⟩) (by decide) (by decide) (fun C h => by cases h) kt_100 q163 dX17_init_6 (sm_putRF F cls_17 (k := 0) rfl (by decide) rfl (Or.inr ⟨_, rfl⟩) rfl hnm rfl q1658 (fun _ h => h) dX17_init_8 (sm_vret F hr hlocks dX17_init_11)))))))
set_option maxHeartbeats 4000000 in
theorem met_X17_copy (l : Launch) : pmMet l G pmcl pmft pmkt pmNW pmFW XE pmXN lo H0 yX17_copy (ws_ yX17_copy cX17_copy 3 none) 0 0 2 P_X17_copy := by
  refine pmMet.of (by decide +kernel) (by decide) ?_
  intro p e s m args below meth c R E hfr hlc F X hr hlocks hexc hnm
  refine wp_sim (V := fun b => pmV p l e R s m args below meth c G lo H0 3 pmcl pmft (vy_MQ below (pmQc G pmcl pmft lo H0 E) (pmXC G pmcl pmft pmXN lo H0 E) args s R.cells R.slots (fun q => lo ≤ q)) ((fun b => match b with | 0 => 0 | _ => 18 : Nat → Nat) b)) ?_ 0
  intro b Y hY
  match b with
  | 0 =>
    show pm_le _ (pmV p l e R s m args below meth c G lo H0 3 pmcl pmft (vy_MQ below (pmQc G pmcl pmft lo H0 E) (pmXC G pmcl pmft pmXN lo H0 E) args s R.cells R.slots (fun q => lo ≤ q)) 0)
    exact (sm_aload_n F dX17_copy_0 rfl (sm_aload_n F dX17_copy_1 rfl (sm_getI F cls_17 (k := 1) rfl (by decide) rfl q1661 (fun _ h => h) dX17_copy_2 (sm_putI F cls_17 (k := 1) rfl (by decide) rfl rfl rfl q1661 (fun _ h => h) dX17_copy_5 (sm_aload_n F dX17_copy_8 rfl (sm_aload_n F dX17_copy_9 rfl (sm_getI F cls_17 (k := 2) rfl (by decide) rfl q1665 (fun _ h => h) dX17_copy_10 (sm_putI F cls_17 (k := 2) rfl (by decide) rfl rfl rfl q1665 (fun _ h => h) dX17_copy_13 (sm_iconst F dX17_copy_16 (by unfold inI; omega) (sm_istore_n F dX17_copy_17 rfl (by decide) (hY 1)))))))))))
  | z + 1 =>
    show pm_le _ (pmV p l e R s m args below meth c G lo H0 3 pmcl pmft (vy_MQ below (pmQc G pmcl pmft lo H0 E) (pmXC G pmcl pmft pmXN lo H0 E) args s R.cells R.slots (fun q => lo ≤ q)) 18)
    exact (sm_iload_n F dX17_copy_18 rfl (sm_aload_n F dX17_copy_19 rfl (sm_getI F cls_17 (k := 2) rfl (by decide) rfl q1665 (fun _ h => h) dX17_copy_20 (sm_cmpge F (tgt := 44) dX17_copy_23 (by decide) (sm_vret F hr hlocks dX17_copy_44) (sm_aload_n F dX17_copy_26 rfl (sm_getR F cls_17 (k := 0) rfl (by decide) rfl q1658 (fun _ h => h) dX17_copy_27 (sm_iload_n F dX17_copy_30 rfl (sm_aload_n F dX17_copy_31 rfl (sm_getR F cls_17 (k := 0) rfl (by decide) rfl q1658 (fun _ h => h) dX17_copy_32 (sm_iload_n F dX17_copy_35 rfl (sm_iald F kt_100 dX17_copy_36 (sm_iast F kt_100 dX17_copy_37 (sm_iinc F dX17_copy_38 (by decide) (sm_goto F (tgt := 18) dX17_copy_41 (by decide) (hY 1)))))))))))))))
set_option maxHeartbeats 4000000 in
theorem met_X17_set (l : Launch) : pmMet l G pmcl pmft pmkt pmNW pmFW XE pmXN lo H0 yX17_set (ws_ yX17_set cX17_set 5 none) 0 0 3 P_X17_set := by
  refine pmMet.of (by decide +kernel) (by decide) ?_
  intro p e s m args below meth c R E hfr hlc F X hr hlocks hexc hnm
  refine wp_sim (V := fun b => pmV p l e R s m args below meth c G lo H0 5 pmcl pmft (vy_MQ below (pmQc G pmcl pmft lo H0 E) (pmXC G pmcl pmft pmXN lo H0 E) args s R.cells R.slots (fun q => lo ≤ q)) ((fun b => match b with | 0 => 0 | 1 => 22 | 2 => 42 | _ => 43 : Nat → Nat) b)) ?_ 0
  intro b Y hY
  match b with
  | 0 =>
    show pm_le _ (pmV p l e R s m args below meth c G lo H0 5 pmcl pmft (vy_MQ below (pmQc G pmcl pmft lo H0 E) (pmXC G pmcl pmft pmXN lo H0 E) args s R.cells R.slots (fun q => lo ≤ q)) 0)
    exact (sm_aload_n F dX17_set_0 rfl (sm_lload_n F dX17_set_1 rfl (sm_lconst F dX17_set_2 ⟨by unfold inL; omega, by decide⟩ (sm_lcmp F dX17_set_3 (sm_ifge F (tgt := 11) dX17_set_4 (by decide) (sm_lload_n F dX17_set_11 rfl (sm_lconst F dX17_set_12 ⟨by unfold inL; omega, by decide⟩ (sm_lcmp F dX17_set_13 (sm_ifle F (tgt := 21) dX17_set_14 (by decide) (sm_iconst F dX17_set_21 (by unfold inI; omega) (sm_kil (hY 1))) (sm_iconst F dX17_set_17 (by unfold inI; omega) (sm_goto F (tgt := 22) dX17_set_18 (by decide) (sm_kil (hY 1)))))))) (sm_iconst F dX17_set_7 (by unfold inI; omega) (sm_goto F (tgt := 22) dX17_set_8 (by decide) (sm_kil (hY 1)))))))))
  | 1 =>
    show pm_le _ (pmV p l e R s m args below meth c G lo H0 5 pmcl pmft (vy_MQ below (pmQc G pmcl pmft lo H0 E) (pmXC G pmcl pmft pmXN lo H0 E) args s R.cells R.slots (fun q => lo ≤ q)) 22)
    exact (sm_putI F cls_17 (k := 1) rfl (by decide) rfl rfl rfl q1661 (fun _ h => h) dX17_set_22 (sm_aload_n F dX17_set_25 rfl (sm_iconst F dX17_set_26 (by unfold inI; omega) (sm_putI F cls_17 (k := 2) rfl (by decide) rfl rfl rfl q1665 (fun _ h => h) dX17_set_27 (sm_lload_n F dX17_set_30 rfl (sm_lconst F dX17_set_31 ⟨by unfold inL; omega, by decide⟩ (sm_lcmp F dX17_set_32 (sm_ifge F (tgt := 40) dX17_set_33 (by decide) (sm_lload_n F dX17_set_40 rfl (sm_lneg F dX17_set_41 (sm_kil (hY 2)))) (sm_lload_n F dX17_set_36 rfl (sm_goto F (tgt := 42) dX17_set_37 (by decide) (sm_kil (hY 2))))))))))))
  | 2 =>
    show pm_le _ (pmV p l e R s m args below meth c G lo H0 5 pmcl pmft (vy_MQ below (pmQc G pmcl pmft lo H0 E) (pmXC G pmcl pmft pmXN lo H0 E) args s R.cells R.slots (fun q => lo ≤ q)) 42)
    exact (sm_lstore_n F dX17_set_42 rfl (by decide) (sm_kil (hY 3)))
  | z + 3 =>
    show pm_le _ (pmV p l e R s m args below meth c G lo H0 5 pmcl pmft (vy_MQ below (pmQc G pmcl pmft lo H0 E) (pmXC G pmcl pmft pmXN lo H0 E) args s R.cells R.slots (fun q => lo ≤ q)) 43)
    exact (sm_lload_n F dX17_set_43 rfl (sm_lconst F dX17_set_44 ⟨by unfold inL; omega, by decide⟩ (sm_lcmp F dX17_set_45 (sm_ifeq F (tgt := 84) dX17_set_46 (by decide) (sm_vret F hr hlocks dX17_set_84) (sm_aload_n F dX17_set_49 rfl (sm_getR F cls_17 (k := 0) rfl (by decide) rfl q1658 (fun _ h => h) dX17_set_50 (sm_aload_n F dX17_set_53 rfl (sm_getI F cls_17 (k := 2) rfl (by decide) rfl q1665 (fun _ h => h) dX17_set_54 (sm_lload_n F dX17_set_57 rfl (sm_ldc2 F dX17_set_58 (by unfold inL; omega) q2090 (sm_lrem F dX17_set_61 (sm_lneg F dX17_set_62 (sm_l2i F dX17_set_63 (sm_iast F kt_100 dX17_set_64 (sm_aload_n F dX17_set_65 rfl (sm_dup F dX17_set_66 (sm_getI F cls_17 (k := 2) rfl (by decide) rfl q1665 (fun _ h => h) dX17_set_67 (sm_iconst F dX17_set_70 (by unfold inI; omega) (sm_iadd F dX17_set_71 (sm_putI F cls_17 (k := 2) rfl (by decide) rfl rfl rfl q1665 (fun _ h => h) dX17_set_72 (sm_lload_n F dX17_set_75 rfl (sm_ldc2 F dX17_set_76 (by unfold inL; omega) q2090 (sm_ldiv F dX17_set_79 (sm_lstore_n F dX17_set_80 rfl (by decide) (sm_goto F (tgt := 43) dX17_set_81 (by decide) (sm_kil (hY 3)))))))))))))))))))))))))))
set_option maxHeartbeats 4000000 in
theorem met_X17_isOne (l : Launch) : pmMet l G pmcl pmft pmkt pmNW pmFW XE pmXN lo H0 yX17_isOne (ws_ yX17_isOne cX17_isOne 1 (some .boolean)) 0 0 1 P_X17_isOne := by
  refine pmMet.of (by decide +kernel) (by decide) ?_
  intro p e s m args below meth c R E hfr hlc F X hr hlocks hexc hnm
  refine wp_sim (V := fun b => pmV p l e R s m args below meth c G lo H0 1 pmcl pmft (vy_MQ below (pmQc G pmcl pmft lo H0 E) (pmXC G pmcl pmft pmXN lo H0 E) args s R.cells R.slots (fun q => lo ≤ q)) ((fun b => match b with | 0 => 0 | 1 => 30 | _ => 31 : Nat → Nat) b)) ?_ 0
  intro b Y hY
  match b with
  | 0 =>
    show pm_le _ (pmV p l e R s m args below meth c G lo H0 1 pmcl pmft (vy_MQ below (pmQc G pmcl pmft lo H0 E) (pmXC G pmcl pmft pmXN lo H0 E) args s R.cells R.slots (fun q => lo ≤ q)) 0)
    exact (sm_aload_n F dX17_isOne_0 rfl (sm_getI F cls_17 (k := 1) rfl (by decide) rfl q1661 (fun _ h => h) dX17_isOne_1 (sm_iconst F dX17_isOne_4 (by unfold inI; omega) (sm_cmpne F (tgt := 30) dX17_isOne_5 (by decide) (sm_kil (hY 1)) (sm_aload_n F dX17_isOne_8 rfl (sm_getI F cls_17 (k := 2) rfl (by decide) rfl q1665 (fun _ h => h) dX17_isOne_9 (sm_iconst F dX17_isOne_12 (by unfold inI; omega) (sm_cmpne F (tgt := 30) dX17_isOne_13 (by decide) (sm_kil (hY 1)) (sm_aload_n F dX17_isOne_16 rfl (sm_getR F cls_17 (k := 0) rfl (by decide) rfl q1658 (fun _ h => h) dX17_isOne_17 (sm_iconst F dX17_isOne_20 (by unfold inI; omega) (sm_iald F kt_100 dX17_isOne_21 (sm_iconst F dX17_isOne_22 (by unfold inI; omega) (sm_cmpne F (tgt := 30) dX17_isOne_23 (by decide) (sm_kil (hY 1)) (sm_iconst F dX17_isOne_26 (by unfold inI; omega) (sm_goto F (tgt := 31) dX17_isOne_27 (by decide) (sm_kil (hY 2))))))))))))))))))
  | 1 =>
    show pm_le _ (pmV p l e R s m args below meth c G lo H0 1 pmcl pmft (vy_MQ below (pmQc G pmcl pmft lo H0 E) (pmXC G pmcl pmft pmXN lo H0 E) args s R.cells R.slots (fun q => lo ≤ q)) 30)
    exact (sm_iconst F dX17_isOne_30 (by unfold inI; omega) (hY 2))
  | z + 2 =>
    show pm_le _ (pmV p l e R s m args below meth c G lo H0 1 pmcl pmft (vy_MQ below (pmQc G pmcl pmft lo H0 E) (pmXC G pmcl pmft pmXN lo H0 E) args s R.cells R.slots (fun q => lo ≤ q)) 31)
    exact (sm_zret F hr hlocks dX17_isOne_31)
set_option maxHeartbeats 4000000 in
theorem met_X17_plain (l : Launch) : pmMet l G pmcl pmft pmkt pmNW pmFW XE pmXN lo H0 yX17_plain (ws_ yX17_plain cX17_plain 4 (some .long)) 0 0 1 P_X17_plain := by
  refine pmMet.of (by decide +kernel) (by decide) ?_
  intro p e s m args below meth c R E hfr hlc F X hr hlocks hexc hnm
  refine wp_sim (V := fun b => pmV p l e R s m args below meth c G lo H0 4 pmcl pmft (vy_MQ below (pmQc G pmcl pmft lo H0 E) (pmXC G pmcl pmft pmXN lo H0 E) args s R.cells R.slots (fun q => lo ≤ q)) ((fun b => match b with | 0 => 0 | _ => 9 : Nat → Nat) b)) ?_ 0
  intro b Y hY
  match b with
  | 0 =>
    show pm_le _ (pmV p l e R s m args below meth c G lo H0 4 pmcl pmft (vy_MQ below (pmQc G pmcl pmft lo H0 E) (pmXC G pmcl pmft pmXN lo H0 E) args s R.cells R.slots (fun q => lo ≤ q)) 0)
    exact (sm_lconst F dX17_plain_0 ⟨by unfold inL; omega, by decide⟩ (sm_lstore_n F dX17_plain_1 rfl (by decide) (sm_aload_n F dX17_plain_2 rfl (sm_getI F cls_17 (k := 2) rfl (by decide) rfl q1665 (fun _ h => h) dX17_plain_3 (sm_iconst F dX17_plain_6 (by unfold inI; omega) (sm_isub F dX17_plain_7 (sm_istore_n F dX17_plain_8 rfl (by decide) (hY 1))))))))
  | z + 1 =>
    show pm_le _ (pmV p l e R s m args below meth c G lo H0 4 pmcl pmft (vy_MQ below (pmQc G pmcl pmft lo H0 E) (pmXC G pmcl pmft pmXN lo H0 E) args s R.cells R.slots (fun q => lo ≤ q)) 9)
    exact (sm_iload_n F dX17_plain_9 rfl (sm_iflt F (tgt := 33) dX17_plain_10 (by decide) (sm_aload_n F dX17_plain_33 rfl (sm_getI F cls_17 (k := 1) rfl (by decide) rfl q1661 (fun _ h => h) dX17_plain_34 (sm_i2l F dX17_plain_37 (sm_lload_n F dX17_plain_38 rfl (sm_lmul F dX17_plain_39 (sm_lret F hr hlocks dX17_plain_40)))))) (sm_lload_n F dX17_plain_13 rfl (sm_ldc2 F dX17_plain_14 (by unfold inL; omega) q2090 (sm_lmul F dX17_plain_17 (sm_aload_n F dX17_plain_18 rfl (sm_getR F cls_17 (k := 0) rfl (by decide) rfl q1658 (fun _ h => h) dX17_plain_19 (sm_iload_n F dX17_plain_22 rfl (sm_iald F kt_100 dX17_plain_23 (sm_i2l F dX17_plain_24 (sm_ladd F dX17_plain_25 (sm_lstore_n F dX17_plain_26 rfl (by decide) (sm_iinc F dX17_plain_27 (by decide) (sm_goto F (tgt := 9) dX17_plain_30 (by decide) (hY 1)))))))))))))))
set_option maxHeartbeats 4000000 in
theorem met_X17_isBeyond (l : Launch) : pmMet l G pmcl pmft pmkt pmNW pmFW XE pmXN lo H0 yX17_isBeyond (ws_ yX17_isBeyond cX17_isBeyond 1 (some .boolean)) 0 0 1 P_X17_isBeyond := by
  refine pmMet.of (by decide +kernel) (by decide) ?_
  intro p e s m args below meth c R E hfr hlc F X hr hlocks hexc hnm
  refine wp_sim (V := fun b => pmV p l e R s m args below meth c G lo H0 1 pmcl pmft (vy_MQ below (pmQc G pmcl pmft lo H0 E) (pmXC G pmcl pmft pmXN lo H0 E) args s R.cells R.slots (fun q => lo ≤ q)) ((fun b => match b with | 0 => 0 | 1 => 31 | 2 => 35 | _ => 36 : Nat → Nat) b)) ?_ 0
  intro b Y hY
  match b with
  | 0 =>
    show pm_le _ (pmV p l e R s m args below meth c G lo H0 1 pmcl pmft (vy_MQ below (pmQc G pmcl pmft lo H0 E) (pmXC G pmcl pmft pmXN lo H0 E) args s R.cells R.slots (fun q => lo ≤ q)) 0)
    exact (sm_aload_n F dX17_isBeyond_0 rfl (sm_getI F cls_17 (k := 2) rfl (by decide) rfl q1665 (fun _ h => h) dX17_isBeyond_1 (sm_bipush F dX17_isBeyond_4 ⟨by unfold inI; omega, by decide⟩ (sm_cmpgt F (tgt := 31) dX17_isBeyond_6 (by decide) (sm_kil (hY 1)) (sm_aload_n F dX17_isBeyond_9 rfl (sm_getI F cls_17 (k := 2) rfl (by decide) rfl q1665 (fun _ h => h) dX17_isBeyond_10 (sm_bipush F dX17_isBeyond_13 ⟨by unfold inI; omega, by decide⟩ (sm_cmpne F (tgt := 35) dX17_isBeyond_15 (by decide) (sm_kil (hY 2)) (sm_aload_n F dX17_isBeyond_18 rfl (sm_getR F cls_17 (k := 0) rfl (by decide) rfl q1658 (fun _ h => h) dX17_isBeyond_19 (sm_bipush F dX17_isBeyond_22 ⟨by unfold inI; omega, by decide⟩ (sm_iald F kt_100 dX17_isBeyond_24 (sm_sipush F dX17_isBeyond_25 ⟨by unfold inI; omega, by decide⟩ (sm_cmplt F (tgt := 35) dX17_isBeyond_28 (by decide) (sm_kil (hY 2)) (sm_kil (hY 1))))))))))))))))
  | 1 =>
    show pm_le _ (pmV p l e R s m args below meth c G lo H0 1 pmcl pmft (vy_MQ below (pmQc G pmcl pmft lo H0 E) (pmXC G pmcl pmft pmXN lo H0 E) args s R.cells R.slots (fun q => lo ≤ q)) 31)
    exact (sm_iconst F dX17_isBeyond_31 (by unfold inI; omega) (sm_goto F (tgt := 36) dX17_isBeyond_32 (by decide) (hY 3)))
  | 2 =>
    show pm_le _ (pmV p l e R s m args below meth c G lo H0 1 pmcl pmft (vy_MQ below (pmQc G pmcl pmft lo H0 E) (pmXC G pmcl pmft pmXN lo H0 E) args s R.cells R.slots (fun q => lo ≤ q)) 35)
    exact (sm_iconst F dX17_isBeyond_35 (by unfold inI; omega) (hY 3))
  | z + 3 =>
    show pm_le _ (pmV p l e R s m args below meth c G lo H0 1 pmcl pmft (vy_MQ below (pmQc G pmcl pmft lo H0 E) (pmXC G pmcl pmft pmXN lo H0 E) args s R.cells R.slots (fun q => lo ≤ q)) 36)
    exact (sm_zret F hr hlocks dX17_isBeyond_36)
set_option maxHeartbeats 4000000 in
theorem met_X17_isLike (l : Launch) : pmMet l G pmcl pmft pmkt pmNW pmFW XE pmXN lo H0 yX17_isLike (ws_ yX17_isLike cX17_isLike 4 (some .boolean)) 0 0 2 P_X17_isLike := by
  refine pmMet.of (by decide +kernel) (by decide) ?_
  intro p e s m args below meth c R E hfr hlc F X hr hlocks hexc hnm
  refine wp_sim (V := fun b => pmV p l e R s m args below meth c G lo H0 4 pmcl pmft (vy_MQ below (pmQc G pmcl pmft lo H0 E) (pmXC G pmcl pmft pmXN lo H0 E) args s R.cells R.slots (fun q => lo ≤ q)) ((fun b => match b with | 0 => 0 | 1 => 26 | 2 => 27 | 3 => 30 | 4 => 62 | _ => 69 : Nat → Nat) b)) ?_ 0
  intro b Y hY
  match b with
  | 0 =>
    show pm_le _ (pmV p l e R s m args below meth c G lo H0 4 pmcl pmft (vy_MQ below (pmQc G pmcl pmft lo H0 E) (pmXC G pmcl pmft pmXN lo H0 E) args s R.cells R.slots (fun q => lo ≤ q)) 0)
    exact (sm_aload_n F dX17_isLike_0 rfl (sm_getI F cls_17 (k := 1) rfl (by decide) rfl q1661 (fun _ h => h) dX17_isLike_1 (sm_aload_n F dX17_isLike_4 rfl (sm_getI F cls_17 (k := 1) rfl (by decide) rfl q1661 (fun _ h => h) dX17_isLike_5 (sm_cmpne F (tgt := 26) dX17_isLike_8 (by decide) (hY 1) (sm_aload_n F dX17_isLike_11 rfl (sm_getI F cls_17 (k := 2) rfl (by decide) rfl q1665 (fun _ h => h) dX17_isLike_12 (sm_aload_n F dX17_isLike_15 rfl (sm_getI F cls_17 (k := 2) rfl (by decide) rfl q1665 (fun _ h => h) dX17_isLike_16 (sm_cmpne F (tgt := 26) dX17_isLike_19 (by decide) (hY 1) (sm_iconst F dX17_isLike_22 (by unfold inI; omega) (sm_goto F (tgt := 27) dX17_isLike_23 (by decide) (hY 2)))))))))))))
  | 1 =>
    show pm_le _ (pmV p l e R s m args below meth c G lo H0 4 pmcl pmft (vy_MQ below (pmQc G pmcl pmft lo H0 E) (pmXC G pmcl pmft pmXN lo H0 E) args s R.cells R.slots (fun q => lo ≤ q)) 26)
    exact (sm_iconst F dX17_isLike_26 (by unfold inI; omega) (hY 2))
  | 2 =>
    show pm_le _ (pmV p l e R s m args below meth c G lo H0 4 pmcl pmft (vy_MQ below (pmQc G pmcl pmft lo H0 E) (pmXC G pmcl pmft pmXN lo H0 E) args s R.cells R.slots (fun q => lo ≤ q)) 27)
    exact (sm_istore_n F dX17_isLike_27 rfl (by decide) (sm_iconst F dX17_isLike_28 (by unfold inI; omega) (sm_istore_n F dX17_isLike_29 rfl (by decide) (hY 3))))
  | 3 =>
    show pm_le _ (pmV p l e R s m args below meth c G lo H0 4 pmcl pmft (vy_MQ below (pmQc G pmcl pmft lo H0 E) (pmXC G pmcl pmft pmXN lo H0 E) args s R.cells R.slots (fun q => lo ≤ q)) 30)
    exact (sm_iload_n F dX17_isLike_30 rfl (sm_aload_n F dX17_isLike_31 rfl (sm_getI F cls_17 (k := 2) rfl (by decide) rfl q1665 (fun _ h => h) dX17_isLike_32 (sm_cmpge F (tgt := 69) dX17_isLike_35 (by decide) (sm_kil (hY 5)) (sm_iload_n F dX17_isLike_38 rfl (sm_ifeq F (tgt := 69) dX17_isLike_39 (by decide) (sm_kil (hY 5)) (sm_aload_n F dX17_isLike_42 rfl (sm_getR F cls_17 (k := 0) rfl (by decide) rfl q1658 (fun _ h => h) dX17_isLike_43 (sm_iload_n F dX17_isLike_46 rfl (sm_iald F kt_100 dX17_isLike_47 (sm_aload_n F dX17_isLike_48 rfl (sm_getR F cls_17 (k := 0) rfl (by decide) rfl q1658 (fun _ h => h) dX17_isLike_49 (sm_iload_n F dX17_isLike_52 rfl (sm_iald F kt_100 dX17_isLike_53 (sm_cmpne F (tgt := 61) dX17_isLike_54 (by decide) (sm_iconst F dX17_isLike_61 (by unfold inI; omega) (sm_kil (hY 4))) (sm_iconst F dX17_isLike_57 (by unfold inI; omega) (sm_goto F (tgt := 62) dX17_isLike_58 (by decide) (sm_kil (hY 4)))))))))))))))))))
  | 4 =>
    show pm_le _ (pmV p l e R s m args below meth c G lo H0 4 pmcl pmft (vy_MQ below (pmQc G pmcl pmft lo H0 E) (pmXC G pmcl pmft pmXN lo H0 E) args s R.cells R.slots (fun q => lo ≤ q)) 62)
    exact (sm_istore_n F dX17_isLike_62 rfl (by decide) (sm_iinc F dX17_isLike_63 (by decide) (sm_goto F (tgt := 30) dX17_isLike_66 (by decide) (hY 3))))
  | z + 5 =>
    show pm_le _ (pmV p l e R s m args below meth c G lo H0 4 pmcl pmft (vy_MQ below (pmQc G pmcl pmft lo H0 E) (pmXC G pmcl pmft pmXN lo H0 E) args s R.cells R.slots (fun q => lo ≤ q)) 69)
    exact (sm_iload_n F dX17_isLike_69 rfl (sm_zret F hr hlocks dX17_isLike_70))
set_option maxHeartbeats 4000000 in
theorem met_X18_copy (l : Launch) : pmMet l G pmcl pmft pmkt pmNW pmFW XE pmXN lo H0 yX18_copy (ws_ yX18_copy cX18_copy 3 none) 1 22 2 P_X18_copy := by
  refine pmMet.of (by decide +kernel) (by decide) ?_
  intro p e s m args below meth c R E hfr hlc F X hr hlocks hexc hnm
  refine wp_sim (V := fun b => pmV p l e R s m args below meth c G lo H0 3 pmcl pmft (vy_MQ below (pmQc G pmcl pmft lo H0 E) (pmXC G pmcl pmft pmXN lo H0 E) args s R.cells R.slots (fun q => lo ≤ q)) ((fun b => match b with | 0 => 0 | _ => 10 : Nat → Nat) b)) ?_ 0
  intro b Y hY
  match b with
  | 0 =>
    show pm_le _ (pmV p l e R s m args below meth c G lo H0 3 pmcl pmft (vy_MQ below (pmQc G pmcl pmft lo H0 E) (pmXC G pmcl pmft pmXN lo H0 E) args s R.cells R.slots (fun q => lo ≤ q)) 0)
    exact (sm_aload_n F dX18_copy_0 rfl (sm_aload_n F dX18_copy_1 rfl (sm_getI F cls_18 (k := 0) rfl (by decide) rfl q1688 (fun _ h => h) dX18_copy_2 (sm_putI F cls_18 (k := 0) rfl (by decide) rfl rfl rfl q1688 (fun _ h => h) dX18_copy_5 (sm_iconst F dX18_copy_8 (by unfold inI; omega) (sm_istore_n F dX18_copy_9 rfl (by decide) (hY 1)))))))
  | z + 1 =>
    show pm_le _ (pmV p l e R s m args below meth c G lo H0 3 pmcl pmft (vy_MQ below (pmQc G pmcl pmft lo H0 E) (pmXC G pmcl pmft pmXN lo H0 E) args s R.cells R.slots (fun q => lo ≤ q)) 10)
    exact (sm_iload_n F dX18_copy_10 rfl (sm_aload_n F dX18_copy_11 rfl (sm_getI F cls_18 (k := 0) rfl (by decide) rfl q1688 (fun _ h => h) dX18_copy_12 (sm_cmpge F (tgt := 66) dX18_copy_15 (by decide) (sm_vret F hr hlocks dX18_copy_66) (sm_aload_n F dX18_copy_18 rfl (sm_getR F cls_18 (k := 1) rfl (by decide) rfl q1691 (fun _ h => h) dX18_copy_19 (sm_iload_n F dX18_copy_22 rfl (sm_aload_n F dX18_copy_23 rfl (sm_getR F cls_18 (k := 1) rfl (by decide) rfl q1691 (fun _ h => h) dX18_copy_24 (sm_iload_n F dX18_copy_27 rfl (sm_iald F kt_100 dX18_copy_28 (sm_iast F kt_100 dX18_copy_29 (sm_aload_n F dX18_copy_30 rfl (sm_getR F cls_18 (k := 2) rfl (by decide) rfl q1694 (fun _ h => h) dX18_copy_31 (sm_iload_n F dX18_copy_34 rfl (sm_aald F (by decide) kt_114 rfl dX18_copy_35 (sm_aload_n F dX18_copy_36 rfl (sm_getR F cls_18 (k := 2) rfl (by decide) rfl q1694 (fun _ h => h) dX18_copy_37 (sm_iload_n F dX18_copy_40 rfl (sm_aald F (by decide) kt_114 rfl dX18_copy_41 (sm_callV F X (met_X17_copy l) cls_17 (fun _ _ => cwV 1 F.1.2.2.2.2 (lw_V q2052 q2053 q2054 q119 q2055) rfl rfl rfl (by decide +kernel) ⟨by rw [hfr]; exact Nat.le_of_ble_eq_true rfl, by rw [hlc]; exact Nat.le_of_ble_eq_true rfl⟩) dX18_copy_42 (sm_aload_n F dX18_copy_45 rfl (sm_getR F cls_18 (k := 3) rfl (by decide) rfl q1697 (fun _ h => h) dX18_copy_46 (sm_iload_n F dX18_copy_49 rfl (sm_aald F (by decide) kt_114 rfl dX18_copy_50 (sm_aload_n F dX18_copy_51 rfl (sm_getR F cls_18 (k := 3) rfl (by decide) rfl q1697 (fun _ h => h) dX18_copy_52 (sm_iload_n F dX18_copy_55 rfl (sm_aald F (by decide) kt_114 rfl dX18_copy_56 (sm_callV F X (met_X17_copy l) cls_17 (fun _ _ => cwV 1 F.1.2.2.2.2 (lw_V q2052 q2053 q2054 q119 q2055) rfl rfl rfl (by decide +kernel) ⟨by rw [hfr]; exact Nat.le_of_ble_eq_true rfl, by rw [hlc]; exact Nat.le_of_ble_eq_true rfl⟩) dX18_copy_57 (sm_iinc F dX18_copy_60 (by decide) (sm_goto F (tgt := 10) dX18_copy_63 (by decide) (hY 1))) sx_none))))))))) sx_none)))))))))))))))))))))
set_option maxHeartbeats 4000000 in
theorem met_X18_isPlain (l : Launch) : pmMet l G pmcl pmft pmkt pmNW pmFW XE pmXN lo H0 yX18_isPlain (ws_ yX18_isPlain cX18_isPlain 3 (some .boolean)) 1 20 2 P_X18_isPlain := by
  refine pmMet.of (by decide +kernel) (by decide) ?_
  intro p e s m args below meth c R E hfr hlc F X hr hlocks hexc hnm
  refine wp_sim (V := fun b => pmV p l e R s m args below meth c G lo H0 3 pmcl pmft (vy_MQ below (pmQc G pmcl pmft lo H0 E) (pmXC G pmcl pmft pmXN lo H0 E) args s R.cells R.slots (fun q => lo ≤ q)) ((fun b => match b with | 0 => 0 | 1 => 2 | _ => 50 : Nat → Nat) b)) ?_ 0
  intro b Y hY
  match b with
  | 0 =>
    show pm_le _ (pmV p l e R s m args below meth c G lo H0 3 pmcl pmft (vy_MQ below (pmQc G pmcl pmft lo H0 E) (pmXC G pmcl pmft pmXN lo H0 E) args s R.cells R.slots (fun q => lo ≤ q)) 0)
    exact (sm_iconst F dX18_isPlain_0 (by unfold inI; omega) (sm_istore_n F dX18_isPlain_1 rfl (by decide) (hY 1)))
  | 1 =>
    show pm_le _ (pmV p l e R s m args below meth c G lo H0 3 pmcl pmft (vy_MQ below (pmQc G pmcl pmft lo H0 E) (pmXC G pmcl pmft pmXN lo H0 E) args s R.cells R.slots (fun q => lo ≤ q)) 2)
    exact (sm_iload_n F dX18_isPlain_2 rfl (sm_aload_n F dX18_isPlain_3 rfl (sm_getI F cls_18 (k := 0) rfl (by decide) rfl q1688 (fun _ h => h) dX18_isPlain_4 (sm_cmpge F (tgt := 58) dX18_isPlain_7 (by decide) (sm_iconst F dX18_isPlain_58 (by unfold inI; omega) (sm_zret F hr hlocks dX18_isPlain_59)) (sm_aload_n F dX18_isPlain_10 rfl (sm_getR F cls_18 (k := 3) rfl (by decide) rfl q1697 (fun _ h => h) dX18_isPlain_11 (sm_iload_n F dX18_isPlain_14 rfl (sm_aald F (by decide) kt_114 rfl dX18_isPlain_15 (sm_callV F X (met_X17_isOne l) cls_17 (fun _ _ => cwV 0 F.1.2.2.2.2 (lw_V q2314 q2117 q2118 q119 q2119) rfl rfl rfl (by decide +kernel) ⟨by rw [hfr]; exact Nat.le_of_ble_eq_true rfl, by rw [hlc]; exact Nat.le_of_ble_eq_true rfl⟩) dX18_isPlain_16 (sm_ifeq F (tgt := 50) dX18_isPlain_19 (by decide) (sm_kil (hY 2)) (sm_aload_n F dX18_isPlain_22 rfl (sm_getR F cls_18 (k := 2) rfl (by decide) rfl q1694 (fun _ h => h) dX18_isPlain_23 (sm_iload_n F dX18_isPlain_26 rfl (sm_aald F (by decide) kt_114 rfl dX18_isPlain_27 (sm_getIN F cls_17 (k := 2) rfl (by decide) rfl (X.1.1 _ nw_q1666).2 (fun _ h => h) dX18_isPlain_28 (sm_iconst F dX18_isPlain_31 (by unfold inI; omega) (sm_cmpgt F (tgt := 50) dX18_isPlain_32 (by decide) (sm_kil (hY 2)) (sm_aload_n F dX18_isPlain_35 rfl (sm_getR F cls_18 (k := 2) rfl (by decide) rfl q1694 (fun _ h => h) dX18_isPlain_36 (sm_iload_n F dX18_isPlain_39 rfl (sm_aald F (by decide) kt_114 rfl dX18_isPlain_40 (sm_getRN F cls_17 (k := 0) rfl (by decide) rfl (X.1.1 _ nw_q1660).2 (fun _ h => h) dX18_isPlain_41 (sm_iconst F dX18_isPlain_44 (by unfold inI; omega) (sm_iald F kt_100 dX18_isPlain_45 (sm_iload_n F dX18_isPlain_46 rfl (sm_cmple F (tgt := 52) dX18_isPlain_47 (by decide) (sm_iinc F dX18_isPlain_52 (by decide) (sm_goto F (tgt := 2) dX18_isPlain_55 (by decide) (hY 1))) (sm_kil (hY 2))))))))))))))))))) sx_none)))))))))
  | z + 2 =>
    show pm_le _ (pmV p l e R s m args below meth c G lo H0 3 pmcl pmft (vy_MQ below (pmQc G pmcl pmft lo H0 E) (pmXC G pmcl pmft pmXN lo H0 E) args s R.cells R.slots (fun q => lo ≤ q)) 50)
    exact (sm_iconst F dX18_isPlain_50 (by unfold inI; omega) (sm_zret F hr hlocks dX18_isPlain_51))
set_option maxHeartbeats 4000000 in
theorem met_X18_isLike (l : Launch) : pmMet l G pmcl pmft pmkt pmNW pmFW XE pmXN lo H0 yX18_isLike (ws_ yX18_isLike cX18_isLike 4 (some .boolean)) 1 23 2 P_X18_isLike := by
  refine pmMet.of (by decide +kernel) (by decide) ?_
  intro p e s m args below meth c R E hfr hlc F X hr hlocks hexc hnm
  refine wp_sim (V := fun b => pmV p l e R s m args below meth c G lo H0 4 pmcl pmft (vy_MQ below (pmQc G pmcl pmft lo H0 E) (pmXC G pmcl pmft pmXN lo H0 E) args s R.cells R.slots (fun q => lo ≤ q)) ((fun b => match b with | 0 => 0 | 1 => 16 | 2 => 19 | 3 => 86 | 4 => 87 | _ => 94 : Nat → Nat) b)) ?_ 0
  intro b Y hY
  match b with
  | 0 =>
    show pm_le _ (pmV p l e R s m args below meth c G lo H0 4 pmcl pmft (vy_MQ below (pmQc G pmcl pmft lo H0 E) (pmXC G pmcl pmft pmXN lo H0 E) args s R.cells R.slots (fun q => lo ≤ q)) 0)
    exact (sm_aload_n F dX18_isLike_0 rfl (sm_getI F cls_18 (k := 0) rfl (by decide) rfl q1688 (fun _ h => h) dX18_isLike_1 (sm_aload_n F dX18_isLike_4 rfl (sm_getI F cls_18 (k := 0) rfl (by decide) rfl q1688 (fun _ h => h) dX18_isLike_5 (sm_cmpne F (tgt := 15) dX18_isLike_8 (by decide) (sm_iconst F dX18_isLike_15 (by unfold inI; omega) (hY 1)) (sm_iconst F dX18_isLike_11 (by unfold inI; omega) (sm_goto F (tgt := 16) dX18_isLike_12 (by decide) (hY 1))))))))
  | 1 =>
    show pm_le _ (pmV p l e R s m args below meth c G lo H0 4 pmcl pmft (vy_MQ below (pmQc G pmcl pmft lo H0 E) (pmXC G pmcl pmft pmXN lo H0 E) args s R.cells R.slots (fun q => lo ≤ q)) 16)
    exact (sm_istore_n F dX18_isLike_16 rfl (by decide) (sm_iconst F dX18_isLike_17 (by unfold inI; omega) (sm_istore_n F dX18_isLike_18 rfl (by decide) (hY 2))))
  | 2 =>
    show pm_le _ (pmV p l e R s m args below meth c G lo H0 4 pmcl pmft (vy_MQ below (pmQc G pmcl pmft lo H0 E) (pmXC G pmcl pmft pmXN lo H0 E) args s R.cells R.slots (fun q => lo ≤ q)) 19)
    exact (sm_iload_n F dX18_isLike_19 rfl (sm_aload_n F dX18_isLike_20 rfl (sm_getI F cls_18 (k := 0) rfl (by decide) rfl q1688 (fun _ h => h) dX18_isLike_21 (sm_cmpge F (tgt := 94) dX18_isLike_24 (by decide) (sm_kil (hY 5)) (sm_iload_n F dX18_isLike_27 rfl (sm_ifeq F (tgt := 94) dX18_isLike_28 (by decide) (sm_kil (hY 5)) (sm_aload_n F dX18_isLike_31 rfl (sm_getR F cls_18 (k := 1) rfl (by decide) rfl q1691 (fun _ h => h) dX18_isLike_32 (sm_iload_n F dX18_isLike_35 rfl (sm_iald F kt_100 dX18_isLike_36 (sm_aload_n F dX18_isLike_37 rfl (sm_getR F cls_18 (k := 1) rfl (by decide) rfl q1691 (fun _ h => h) dX18_isLike_38 (sm_iload_n F dX18_isLike_41 rfl (sm_iald F kt_100 dX18_isLike_42 (sm_cmpne F (tgt := 86) dX18_isLike_43 (by decide) (sm_kil (hY 3)) (sm_aload_n F dX18_isLike_46 rfl (sm_getR F cls_18 (k := 2) rfl (by decide) rfl q1694 (fun _ h => h) dX18_isLike_47 (sm_iload_n F dX18_isLike_50 rfl (sm_aald F (by decide) kt_114 rfl dX18_isLike_51 (sm_aload_n F dX18_isLike_52 rfl (sm_getR F cls_18 (k := 2) rfl (by decide) rfl q1694 (fun _ h => h) dX18_isLike_53 (sm_iload_n F dX18_isLike_56 rfl (sm_aald F (by decide) kt_114 rfl dX18_isLike_57 (sm_callV F X (met_X17_isLike l) cls_17 (fun _ _ => cwV 1 F.1.2.2.2.2 (lw_V q2450 q2451 q2452 q119 q2453) rfl rfl rfl (by decide +kernel) ⟨by rw [hfr]; exact Nat.le_of_ble_eq_true rfl, by rw [hlc]; exact Nat.le_of_ble_eq_true rfl⟩) dX18_isLike_58 (sm_ifeq F (tgt := 86) dX18_isLike_61 (by decide) (sm_kil (hY 3)) (sm_aload_n F dX18_isLike_64 rfl (sm_getR F cls_18 (k := 3) rfl (by decide) rfl q1697 (fun _ h => h) dX18_isLike_65 (sm_iload_n F dX18_isLike_68 rfl (sm_aald F (by decide) kt_114 rfl dX18_isLike_69 (sm_aload_n F dX18_isLike_70 rfl (sm_getR F cls_18 (k := 3) rfl (by decide) rfl q1697 (fun _ h => h) dX18_isLike_71 (sm_iload_n F dX18_isLike_74 rfl (sm_aald F (by decide) kt_114 rfl dX18_isLike_75 (sm_callV F X (met_X17_isLike l) cls_17 (fun _ _ => cwV 1 F.1.2.2.2.2 (lw_V q2450 q2451 q2452 q119 q2453) rfl rfl rfl (by decide +kernel) ⟨by rw [hfr]; exact Nat.le_of_ble_eq_true rfl, by rw [hlc]; exact Nat.le_of_ble_eq_true rfl⟩) dX18_isLike_76 (sm_ifeq F (tgt := 86) dX18_isLike_79 (by decide) (sm_kil (hY 3)) (sm_iconst F dX18_isLike_82 (by unfold inI; omega) (sm_goto F (tgt := 87) dX18_isLike_83 (by decide) (sm_kil (hY 4))))) sx_none)))))))))) sx_none))))))))))))))))))))))))
  | 3 =>
    show pm_le _ (pmV p l e R s m args below meth c G lo H0 4 pmcl pmft (vy_MQ below (pmQc G pmcl pmft lo H0 E) (pmXC G pmcl pmft pmXN lo H0 E) args s R.cells R.slots (fun q => lo ≤ q)) 86)
    exact (sm_iconst F dX18_isLike_86 (by unfold inI; omega) (hY 4))
  | 4 =>
    show pm_le _ (pmV p l e R s m args below meth c G lo H0 4 pmcl pmft (vy_MQ below (pmQc G pmcl pmft lo H0 E) (pmXC G pmcl pmft pmXN lo H0 E) args s R.cells R.slots (fun q => lo ≤ q)) 87)
    exact (sm_istore_n F dX18_isLike_87 rfl (by decide) (sm_iinc F dX18_isLike_88 (by decide) (sm_goto F (tgt := 19) dX18_isLike_91 (by decide) (hY 2))))
  | z + 5 =>
    show pm_le _ (pmV p l e R s m args below meth c G lo H0 4 pmcl pmft (vy_MQ below (pmQc G pmcl pmft lo H0 E) (pmXC G pmcl pmft pmXN lo H0 E) args s R.cells R.slots (fun q => lo ≤ q)) 94)
    exact (sm_iload_n F dX18_isLike_94 rfl (sm_zret F hr hlocks dX18_isLike_95))
set_option maxHeartbeats 4000000 in
theorem met_X19_clear (l : Launch) : pmMet l G pmcl pmft pmkt pmNW pmFW XE pmXN lo H0 yX19_clear (ws_ yX19_clear cX19_clear 2 none) 0 0 1 P_X19_clear := by
  refine pmMet.of (by decide +kernel) (by decide) ?_
  intro p e s m args below meth c R E hfr hlc F X hr hlocks hexc hnm
  refine wp_sim (V := fun b => pmV p l e R s m args below meth c G lo H0 2 pmcl pmft (vy_MQ below (pmQc G pmcl pmft lo H0 E) (pmXC G pmcl pmft pmXN lo H0 E) args s R.cells R.slots (fun q => lo ≤ q)) ((fun b => match b with | 0 => 0 | _ => 2 : Nat → Nat) b)) ?_ 0
  intro b Y hY
  match b with
  | 0 =>
    show pm_le _ (pmV p l e R s m args below meth c G lo H0 2 pmcl pmft (vy_MQ below (pmQc G pmcl pmft lo H0 E) (pmXC G pmcl pmft pmXN lo H0 E) args s R.cells R.slots (fun q => lo ≤ q)) 0)
    exact (sm_iconst F dX19_clear_0 (by unfold inI; omega) (sm_istore_n F dX19_clear_1 rfl (by decide) (hY 1)))
  | z + 1 =>
    show pm_le _ (pmV p l e R s m args below meth c G lo H0 2 pmcl pmft (vy_MQ below (pmQc G pmcl pmft lo H0 E) (pmXC G pmcl pmft pmXN lo H0 E) args s R.cells R.slots (fun q => lo ≤ q)) 2)
    exact (sm_iload_n F dX19_clear_2 rfl (sm_aload_n F dX19_clear_3 rfl (sm_getI F cls_19 (k := 0) rfl (by decide) rfl q1717 (fun _ h => h) dX19_clear_4 (sm_cmpge F (tgt := 28) dX19_clear_7 (by decide) (sm_aload_n F dX19_clear_28 rfl (sm_iconst F dX19_clear_29 (by unfold inI; omega) (sm_putI F cls_19 (k := 0) rfl (by decide) rfl rfl rfl q1717 (fun _ h => h) dX19_clear_30 (sm_vret F hr hlocks dX19_clear_33)))) (sm_aload_n F dX19_clear_10 rfl (sm_getR F cls_19 (k := 2) rfl (by decide) rfl q1720 (fun _ h => h) dX19_clear_11 (sm_aload_n F dX19_clear_14 rfl (sm_getR F cls_19 (k := 1) rfl (by decide) rfl q1718 (fun _ h => h) dX19_clear_15 (sm_iload_n F dX19_clear_18 rfl (sm_iald F kt_100 dX19_clear_19 (sm_iconst F dX19_clear_20 (by unfold inI; omega) (sm_iast F kt_100 dX19_clear_21 (sm_iinc F dX19_clear_22 (by decide) (sm_goto F (tgt := 2) dX19_clear_25 (by decide) (hY 1)))))))))))))))
set_option maxHeartbeats 4000000 in
theorem met_X19_place (l : Launch) : pmMet l G pmcl pmft pmkt pmNW pmFW XE pmXN lo H0 yX19_place (ws_ yX19_place cX19_place 2 (some .int)) 1 24 2 P_X19_place := by
  refine pmMet.of (by decide +kernel) (by decide) ?_
  intro p e s m args below meth c R E hfr hlc F X hr hlocks hexc hnm
  refine wp_sim (V := fun b => pmV p l e R s m args below meth c G lo H0 2 pmcl pmft (vy_MQ below (pmQc G pmcl pmft lo H0 E) (pmXC G pmcl pmft pmXN lo H0 E) args s R.cells R.slots (fun q => lo ≤ q)) ((fun b => match b with | 0 => 0 | _ => 65 : Nat → Nat) b)) ?_ 0
  intro b Y hY
  match b with
  | 0 =>
    show pm_le _ (pmV p l e R s m args below meth c G lo H0 2 pmcl pmft (vy_MQ below (pmQc G pmcl pmft lo H0 E) (pmXC G pmcl pmft pmXN lo H0 E) args s R.cells R.slots (fun q => lo ≤ q)) 0)
    exact (sm_aload_n F dX19_place_0 rfl (sm_getR F cls_19 (k := 2) rfl (by decide) rfl q1720 (fun _ h => h) dX19_place_1 (sm_iload_n F dX19_place_4 rfl (sm_iald F kt_100 dX19_place_5 (sm_ifge F (tgt := 65) dX19_place_6 (by decide) (hY 1) (sm_aload_n F dX19_place_9 rfl (sm_getR F cls_19 (k := 2) rfl (by decide) rfl q1720 (fun _ h => h) dX19_place_10 (sm_iload_n F dX19_place_13 rfl (sm_aload_n F dX19_place_14 rfl (sm_getI F cls_19 (k := 0) rfl (by decide) rfl q1717 (fun _ h => h) dX19_place_15 (sm_iast F kt_100 dX19_place_18 (sm_aload_n F dX19_place_19 rfl (sm_getR F cls_19 (k := 1) rfl (by decide) rfl q1718 (fun _ h => h) dX19_place_20 (sm_aload_n F dX19_place_23 rfl (sm_getI F cls_19 (k := 0) rfl (by decide) rfl q1717 (fun _ h => h) dX19_place_24 (sm_iload_n F dX19_place_27 rfl (sm_iast F kt_100 dX19_place_28 (sm_aload_n F dX19_place_29 rfl (sm_getR F cls_19 (k := 3) rfl (by decide) rfl q1721 (fun _ h => h) dX19_place_30 (sm_aload_n F dX19_place_33 rfl (sm_getI F cls_19 (k := 0) rfl (by decide) rfl q1717 (fun _ h => h) dX19_place_34 (sm_aald F (by decide) kt_114 rfl dX19_place_37 (sm_lconst F dX19_place_38 ⟨by unfold inL; omega, by decide⟩ (sm_callV F X (met_X17_set l) cls_17 (fun _ _ => cwV 1 F.1.2.2.2.2 (lw_V q2086 q2087 q2088 q119 q2089) rfl rfl rfl (by decide +kernel) ⟨by rw [hfr]; exact Nat.le_of_ble_eq_true rfl, by rw [hlc]; exact Nat.le_of_ble_eq_true rfl⟩) dX19_place_39 (sm_aload_n F dX19_place_42 rfl (sm_getR F cls_19 (k := 4) rfl (by decide) rfl q1723 (fun _ h => h) dX19_place_43 (sm_aload_n F dX19_place_46 rfl (sm_getI F cls_19 (k := 0) rfl (by decide) rfl q1717 (fun _ h => h) dX19_place_47 (sm_aald F (by decide) kt_114 rfl dX19_place_50 (sm_lconst F dX19_place_51 ⟨by unfold inL; omega, by decide⟩ (sm_callV F X (met_X17_set l) cls_17 (fun _ _ => cwV 1 F.1.2.2.2.2 (lw_V q2086 q2087 q2088 q119 q2089) rfl rfl rfl (by decide +kernel) ⟨by rw [hfr]; exact Nat.le_of_ble_eq_true rfl, by rw [hlc]; exact Nat.le_of_ble_eq_true rfl⟩) dX19_place_52 (sm_aload_n F dX19_place_55 rfl (sm_dup F dX19_place_56 (sm_getI F cls_19 (k := 0) rfl (by decide) rfl q1717 (fun _ h => h) dX19_place_57 (sm_iconst F dX19_place_60 (by unfold inI; omega) (sm_iadd F dX19_place_61 (sm_putI F cls_19 (k := 0) rfl (by decide) rfl rfl rfl q1717 (fun _ h => h) dX19_place_62 (hY 1))))))) sx_none))))))) sx_none))))))))))))))))))))))))
  | z + 1 =>
    show pm_le _ (pmV p l e R s m args below meth c G lo H0 2 pmcl pmft (vy_MQ below (pmQc G pmcl pmft lo H0 E) (pmXC G pmcl pmft pmXN lo H0 E) args s R.cells R.slots (fun q => lo ≤ q)) 65)
    exact (sm_aload_n F dX19_place_65 rfl (sm_getR F cls_19 (k := 2) rfl (by decide) rfl q1720 (fun _ h => h) dX19_place_66 (sm_iload_n F dX19_place_69 rfl (sm_iald F kt_100 dX19_place_70 (sm_iret F hr hlocks dX19_place_71)))))
set_option maxHeartbeats 4000000 in
theorem met_X19_terms (l : Launch) : pmMet l G pmcl pmft pmkt pmNW pmFW XE pmXN lo H0 yX19_terms (ws_ yX19_terms cX19_terms 3 (some .int)) 0 0 1 P_X19_terms := by
  refine pmMet.of (by decide +kernel) (by decide) ?_
  intro p e s m args below meth c R E hfr hlc F X hr hlocks hexc hnm
  refine wp_sim (V := fun b => pmV p l e R s m args below meth c G lo H0 3 pmcl pmft (vy_MQ below (pmQc G pmcl pmft lo H0 E) (pmXC G pmcl pmft pmXN lo H0 E) args s R.cells R.slots (fun q => lo ≤ q)) ((fun b => match b with | 0 => 0 | 1 => 4 | _ => 30 : Nat → Nat) b)) ?_ 0
  intro b Y hY
  match b with
  | 0 =>
    show pm_le _ (pmV p l e R s m args below meth c G lo H0 3 pmcl pmft (vy_MQ below (pmQc G pmcl pmft lo H0 E) (pmXC G pmcl pmft pmXN lo H0 E) args s R.cells R.slots (fun q => lo ≤ q)) 0)
    exact (sm_iconst F dX19_terms_0 (by unfold inI; omega) (sm_istore_n F dX19_terms_1 rfl (by decide) (sm_iconst F dX19_terms_2 (by unfold inI; omega) (sm_istore_n F dX19_terms_3 rfl (by decide) (hY 1)))))
  | 1 =>
    show pm_le _ (pmV p l e R s m args below meth c G lo H0 3 pmcl pmft (vy_MQ below (pmQc G pmcl pmft lo H0 E) (pmXC G pmcl pmft pmXN lo H0 E) args s R.cells R.slots (fun q => lo ≤ q)) 4)
    exact (sm_iload_n F dX19_terms_4 rfl (sm_aload_n F dX19_terms_5 rfl (sm_getI F cls_19 (k := 0) rfl (by decide) rfl q1717 (fun _ h => h) dX19_terms_6 (sm_cmpge F (tgt := 38) dX19_terms_9 (by decide) (sm_iload_n F dX19_terms_38 rfl (sm_iret F hr hlocks dX19_terms_39)) (sm_iload_n F dX19_terms_12 rfl (sm_aload_n F dX19_terms_13 rfl (sm_getR F cls_19 (k := 3) rfl (by decide) rfl q1721 (fun _ h => h) dX19_terms_14 (sm_iload_n F dX19_terms_17 rfl (sm_aald F (by decide) kt_114 rfl dX19_terms_18 (sm_getIN F cls_17 (k := 1) rfl (by decide) rfl (X.1.1 _ nw_q1663).2 (fun _ h => h) dX19_terms_19 (sm_ifne F (tgt := 29) dX19_terms_22 (by decide) (sm_iconst F dX19_terms_29 (by unfold inI; omega) (sm_kil (hY 2))) (sm_iconst F dX19_terms_25 (by unfold inI; omega) (sm_goto F (tgt := 30) dX19_terms_26 (by decide) (sm_kil (hY 2)))))))))))))))
  | z + 2 =>
    show pm_le _ (pmV p l e R s m args below meth c G lo H0 3 pmcl pmft (vy_MQ below (pmQc G pmcl pmft lo H0 E) (pmXC G pmcl pmft pmXN lo H0 E) args s R.cells R.slots (fun q => lo ≤ q)) 30)
    exact (sm_iadd F dX19_terms_30 (sm_istore_n F dX19_terms_31 rfl (by decide) (sm_iinc F dX19_terms_32 (by decide) (sm_goto F (tgt := 4) dX19_terms_35 (by decide) (hY 1)))))
end MT
