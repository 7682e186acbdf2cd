/-! HoldtagLaw -/
set_option maxRecDepth 100000
def RX0 : String := "HoldtagLaw"
abbrev cX0_folder : ByteArray := method_3_code
def yX0_folder : MethodName := ⟨RX0, "folder", "(LHoldtag;I[J)I"⟩
def dkwX0_folder_0 : List UInt8 := [44, 3, 42, 27, 182, 0, 7, 133, 80, 167, 0, 9, 78, 4, 172, 78, 5, 172, 3, 172]
abbrev dktX0_folder_0 : List UInt8 := dkwX0_folder_0 ++ []
theorem dksX0_folder_0 : cX0_folder.data.toList.drop 0 = dktX0_folder_0 := by decide +kernel
theorem dX0_folder_0 : decode cX0_folder 0 = .ok (.aload_n 2, 1) := dk_44 (dk_at dksX0_folder_0 0 rfl rfl)
theorem dX0_folder_1 : decode cX0_folder 1 = .ok (.iconst 0, 1) := dk_3 (dk_at dksX0_folder_0 1 rfl rfl)
theorem dX0_folder_2 : decode cX0_folder 2 = .ok (.aload_n 0, 1) := dk_42 (dk_at dksX0_folder_0 2 rfl rfl)
theorem dX0_folder_3 : decode cX0_folder 3 = .ok (.iload_n 1, 1) := dk_27 (dk_at dksX0_folder_0 3 rfl rfl)
theorem dX0_folder_4 : decode cX0_folder 4 = .ok (.invokevirtual 7, 3) := dk_182 0 7 (dk_at dksX0_folder_0 4 rfl rfl)
theorem dX0_folder_7 : decode cX0_folder 7 = .ok (.i2l, 1) := dk_133 (dk_at dksX0_folder_0 7 rfl rfl)
theorem dX0_folder_8 : decode cX0_folder 8 = .ok (.lastore, 1) := dk_80 (dk_at dksX0_folder_0 8 rfl rfl)
theorem dX0_folder_9 : decode cX0_folder 9 = .ok (.goto 9, 3) := dk_167 0 9 (dk_at dksX0_folder_0 9 rfl rfl)
theorem dX0_folder_12 : decode cX0_folder 12 = .ok (.astore_n 3, 1) := dk_78 (dk_at dksX0_folder_0 12 rfl rfl)
theorem dX0_folder_13 : decode cX0_folder 13 = .ok (.iconst 1, 1) := dk_4 (dk_at dksX0_folder_0 13 rfl rfl)
theorem dX0_folder_14 : decode cX0_folder 14 = .ok (.ireturn, 1) := dk_172 (dk_at dksX0_folder_0 14 rfl rfl)
theorem dX0_folder_15 : decode cX0_folder 15 = .ok (.astore_n 3, 1) := dk_78 (dk_at dksX0_folder_0 15 rfl rfl)
theorem dX0_folder_16 : decode cX0_folder 16 = .ok (.iconst 2, 1) := dk_5 (dk_at dksX0_folder_0 16 rfl rfl)
theorem dX0_folder_17 : decode cX0_folder 17 = .ok (.ireturn, 1) := dk_172 (dk_at dksX0_folder_0 17 rfl rfl)
theorem dX0_folder_18 : decode cX0_folder 18 = .ok (.iconst 0, 1) := dk_3 (dk_at dksX0_folder_0 18 rfl rfl)
theorem dX0_folder_19 : decode cX0_folder 19 = .ok (.ireturn, 1) := dk_172 (dk_at dksX0_folder_0 19 rfl rfl)
abbrev cX0_tag : ByteArray := method_4_code
def yX0_tag : MethodName := ⟨RX0, "tag", "(LHoldtag;III[J)I"⟩
def dkwX0_tag_1 : List UInt8 := [172]
abbrev dktX0_tag_1 : List UInt8 := dkwX0_tag_1 ++ []
def dkwX0_tag_0 : List UInt8 := [25, 4, 3, 42, 27, 28, 29, 182, 0, 17, 133, 80, 167, 0, 11, 58, 5, 4, 172, 58, 5, 5, 172, 3]
abbrev dktX0_tag_0 : List UInt8 := dkwX0_tag_0 ++ dktX0_tag_1
theorem dksX0_tag_0 : cX0_tag.data.toList.drop 0 = dktX0_tag_0 := by decide +kernel
theorem dksX0_tag_1 : cX0_tag.data.toList.drop 24 = dktX0_tag_1 := dk_seg dksX0_tag_0 24 rfl rfl
theorem dX0_tag_0 : decode cX0_tag 0 = .ok (.aload 4, 2) := dk_25 4 (dk_at dksX0_tag_0 0 rfl rfl)
theorem dX0_tag_2 : decode cX0_tag 2 = .ok (.iconst 0, 1) := dk_3 (dk_at dksX0_tag_0 2 rfl rfl)
theorem dX0_tag_3 : decode cX0_tag 3 = .ok (.aload_n 0, 1) := dk_42 (dk_at dksX0_tag_0 3 rfl rfl)
theorem dX0_tag_4 : decode cX0_tag 4 = .ok (.iload_n 1, 1) := dk_27 (dk_at dksX0_tag_0 4 rfl rfl)
theorem dX0_tag_5 : decode cX0_tag 5 = .ok (.iload_n 2, 1) := dk_28 (dk_at dksX0_tag_0 5 rfl rfl)
theorem dX0_tag_6 : decode cX0_tag 6 = .ok (.iload_n 3, 1) := dk_29 (dk_at dksX0_tag_0 6 rfl rfl)
theorem dX0_tag_7 : decode cX0_tag 7 = .ok (.invokevirtual 17, 3) := dk_182 0 17 (dk_at dksX0_tag_0 7 rfl rfl)
theorem dX0_tag_10 : decode cX0_tag 10 = .ok (.i2l, 1) := dk_133 (dk_at dksX0_tag_0 10 rfl rfl)
theorem dX0_tag_11 : decode cX0_tag 11 = .ok (.lastore, 1) := dk_80 (dk_at dksX0_tag_0 11 rfl rfl)
theorem dX0_tag_12 : decode cX0_tag 12 = .ok (.goto 11, 3) := dk_167 0 11 (dk_at dksX0_tag_0 12 rfl rfl)
theorem dX0_tag_15 : decode cX0_tag 15 = .ok (.astore 5, 2) := dk_58 5 (dk_at dksX0_tag_0 15 rfl rfl)
theorem dX0_tag_17 : decode cX0_tag 17 = .ok (.iconst 1, 1) := dk_4 (dk_at dksX0_tag_0 17 rfl rfl)
theorem dX0_tag_18 : decode cX0_tag 18 = .ok (.ireturn, 1) := dk_172 (dk_at dksX0_tag_0 18 rfl rfl)
theorem dX0_tag_19 : decode cX0_tag 19 = .ok (.astore 5, 2) := dk_58 5 (dk_at dksX0_tag_0 19 rfl rfl)
theorem dX0_tag_21 : decode cX0_tag 21 = .ok (.iconst 2, 1) := dk_5 (dk_at dksX0_tag_0 21 rfl rfl)
theorem dX0_tag_22 : decode cX0_tag 22 = .ok (.ireturn, 1) := dk_172 (dk_at dksX0_tag_0 22 rfl rfl)
theorem dX0_tag_23 : decode cX0_tag 23 = .ok (.iconst 0, 1) := dk_3 (dk_at dksX0_tag_0 23 rfl rfl)
theorem dX0_tag_24 : decode cX0_tag 24 = .ok (.ireturn, 1) := dk_172 (dk_at dksX0_tag_1 0 rfl rfl)
abbrev cX0_tagFolder : ByteArray := method_5_code
def yX0_tagFolder : MethodName := ⟨RX0, "tagFolder", "(LHoldtag;II[J)I"⟩
def dkwX0_tagFolder_0 : List UInt8 := [45, 3, 42, 27, 28, 182, 0, 23, 133, 80, 167, 0, 7, 58, 4, 4, 172, 3, 172]
abbrev dktX0_tagFolder_0 : List UInt8 := dkwX0_tagFolder_0 ++ []
theorem dksX0_tagFolder_0 : cX0_tagFolder.data.toList.drop 0 = dktX0_tagFolder_0 := by decide +kernel
theorem dX0_tagFolder_0 : decode cX0_tagFolder 0 = .ok (.aload_n 3, 1) := dk_45 (dk_at dksX0_tagFolder_0 0 rfl rfl)
theorem dX0_tagFolder_1 : decode cX0_tagFolder 1 = .ok (.iconst 0, 1) := dk_3 (dk_at dksX0_tagFolder_0 1 rfl rfl)
theorem dX0_tagFolder_2 : decode cX0_tagFolder 2 = .ok (.aload_n 0, 1) := dk_42 (dk_at dksX0_tagFolder_0 2 rfl rfl)
theorem dX0_tagFolder_3 : decode cX0_tagFolder 3 = .ok (.iload_n 1, 1) := dk_27 (dk_at dksX0_tagFolder_0 3 rfl rfl)
theorem dX0_tagFolder_4 : decode cX0_tagFolder 4 = .ok (.iload_n 2, 1) := dk_28 (dk_at dksX0_tagFolder_0 4 rfl rfl)
theorem dX0_tagFolder_5 : decode cX0_tagFolder 5 = .ok (.invokevirtual 23, 3) := dk_182 0 23 (dk_at dksX0_tagFolder_0 5 rfl rfl)
theorem dX0_tagFolder_8 : decode cX0_tagFolder 8 = .ok (.i2l, 1) := dk_133 (dk_at dksX0_tagFolder_0 8 rfl rfl)
theorem dX0_tagFolder_9 : decode cX0_tagFolder 9 = .ok (.lastore, 1) := dk_80 (dk_at dksX0_tagFolder_0 9 rfl rfl)
theorem dX0_tagFolder_10 : decode cX0_tagFolder 10 = .ok (.goto 7, 3) := dk_167 0 7 (dk_at dksX0_tagFolder_0 10 rfl rfl)
theorem dX0_tagFolder_13 : decode cX0_tagFolder 13 = .ok (.astore 4, 2) := dk_58 4 (dk_at dksX0_tagFolder_0 13 rfl rfl)
theorem dX0_tagFolder_15 : decode cX0_tagFolder 15 = .ok (.iconst 1, 1) := dk_4 (dk_at dksX0_tagFolder_0 15 rfl rfl)
theorem dX0_tagFolder_16 : decode cX0_tagFolder 16 = .ok (.ireturn, 1) := dk_172 (dk_at dksX0_tagFolder_0 16 rfl rfl)
theorem dX0_tagFolder_17 : decode cX0_tagFolder 17 = .ok (.iconst 0, 1) := dk_3 (dk_at dksX0_tagFolder_0 17 rfl rfl)
theorem dX0_tagFolder_18 : decode cX0_tagFolder 18 = .ok (.ireturn, 1) := dk_172 (dk_at dksX0_tagFolder_0 18 rfl rfl)
abbrev cX0_tagItem : ByteArray := method_6_code
def yX0_tagItem : MethodName := ⟨RX0, "tagItem", "(LHoldtag;II[J)I"⟩
def dkwX0_tagItem_0 : List UInt8 := [45, 3, 42, 27, 28, 182, 0, 27, 133, 80, 167, 0, 11, 58, 4, 4, 172, 58, 4, 5, 172, 3, 172]
abbrev dktX0_tagItem_0 : List UInt8 := dkwX0_tagItem_0 ++ []
theorem dksX0_tagItem_0 : cX0_tagItem.data.toList.drop 0 = dktX0_tagItem_0 := by decide +kernel
theorem dX0_tagItem_0 : decode cX0_tagItem 0 = .ok (.aload_n 3, 1) := dk_45 (dk_at dksX0_tagItem_0 0 rfl rfl)
theorem dX0_tagItem_1 : decode cX0_tagItem 1 = .ok (.iconst 0, 1) := dk_3 (dk_at dksX0_tagItem_0 1 rfl rfl)
theorem dX0_tagItem_2 : decode cX0_tagItem 2 = .ok (.aload_n 0, 1) := dk_42 (dk_at dksX0_tagItem_0 2 rfl rfl)
theorem dX0_tagItem_3 : decode cX0_tagItem 3 = .ok (.iload_n 1, 1) := dk_27 (dk_at dksX0_tagItem_0 3 rfl rfl)
theorem dX0_tagItem_4 : decode cX0_tagItem 4 = .ok (.iload_n 2, 1) := dk_28 (dk_at dksX0_tagItem_0 4 rfl rfl)
theorem dX0_tagItem_5 : decode cX0_tagItem 5 = .ok (.invokevirtual 27, 3) := dk_182 0 27 (dk_at dksX0_tagItem_0 5 rfl rfl)
theorem dX0_tagItem_8 : decode cX0_tagItem 8 = .ok (.i2l, 1) := dk_133 (dk_at dksX0_tagItem_0 8 rfl rfl)
theorem dX0_tagItem_9 : decode cX0_tagItem 9 = .ok (.lastore, 1) := dk_80 (dk_at dksX0_tagItem_0 9 rfl rfl)
theorem dX0_tagItem_10 : decode cX0_tagItem 10 = .ok (.goto 11, 3) := dk_167 0 11 (dk_at dksX0_tagItem_0 10 rfl rfl)
theorem dX0_tagItem_13 : decode cX0_tagItem 13 = .ok (.astore 4, 2) := dk_58 4 (dk_at dksX0_tagItem_0 13 rfl rfl)
theorem dX0_tagItem_15 : decode cX0_tagItem 15 = .ok (.iconst 1, 1) := dk_4 (dk_at dksX0_tagItem_0 15 rfl rfl)
theorem dX0_tagItem_16 : decode cX0_tagItem 16 = .ok (.ireturn, 1) := dk_172 (dk_at dksX0_tagItem_0 16 rfl rfl)
theorem dX0_tagItem_17 : decode cX0_tagItem 17 = .ok (.astore 4, 2) := dk_58 4 (dk_at dksX0_tagItem_0 17 rfl rfl)
theorem dX0_tagItem_19 : decode cX0_tagItem 19 = .ok (.iconst 2, 1) := dk_5 (dk_at dksX0_tagItem_0 19 rfl rfl)
theorem dX0_tagItem_20 : decode cX0_tagItem 20 = .ok (.ireturn, 1) := dk_172 (dk_at dksX0_tagItem_0 20 rfl rfl)
theorem dX0_tagItem_21 : decode cX0_tagItem 21 = .ok (.iconst 0, 1) := dk_3 (dk_at dksX0_tagItem_0 21 rfl rfl)
theorem dX0_tagItem_22 : decode cX0_tagItem 22 = .ok (.ireturn, 1) := dk_172 (dk_at dksX0_tagItem_0 22 rfl rfl)
abbrev cX0_byDefault : ByteArray := method_7_code
def yX0_byDefault : MethodName := ⟨RX0, "byDefault", "(LHoldtag;I[J)I"⟩
def dkwX0_byDefault_0 : List UInt8 := [44, 3, 42, 27, 182, 0, 30, 133, 80, 167, 0, 6, 78, 4, 172, 3, 172]
abbrev dktX0_byDefault_0 : List UInt8 := dkwX0_byDefault_0 ++ []
theorem dksX0_byDefault_0 : cX0_byDefault.data.toList.drop 0 = dktX0_byDefault_0 := by decide +kernel
theorem dX0_byDefault_0 : decode cX0_byDefault 0 = .ok (.aload_n 2, 1) := dk_44 (dk_at dksX0_byDefault_0 0 rfl rfl)
theorem dX0_byDefault_1 : decode cX0_byDefault 1 = .ok (.iconst 0, 1) := dk_3 (dk_at dksX0_byDefault_0 1 rfl rfl)
theorem dX0_byDefault_2 : decode cX0_byDefault 2 = .ok (.aload_n 0, 1) := dk_42 (dk_at dksX0_byDefault_0 2 rfl rfl)
theorem dX0_byDefault_3 : decode cX0_byDefault 3 = .ok (.iload_n 1, 1) := dk_27 (dk_at dksX0_byDefault_0 3 rfl rfl)
theorem dX0_byDefault_4 : decode cX0_byDefault 4 = .ok (.invokevirtual 30, 3) := dk_182 0 30 (dk_at dksX0_byDefault_0 4 rfl rfl)
theorem dX0_byDefault_7 : decode cX0_byDefault 7 = .ok (.i2l, 1) := dk_133 (dk_at dksX0_byDefault_0 7 rfl rfl)
theorem dX0_byDefault_8 : decode cX0_byDefault 8 = .ok (.lastore, 1) := dk_80 (dk_at dksX0_byDefault_0 8 rfl rfl)
theorem dX0_byDefault_9 : decode cX0_byDefault 9 = .ok (.goto 6, 3) := dk_167 0 6 (dk_at dksX0_byDefault_0 9 rfl rfl)
theorem dX0_byDefault_12 : decode cX0_byDefault 12 = .ok (.astore_n 3, 1) := dk_78 (dk_at dksX0_byDefault_0 12 rfl rfl)
theorem dX0_byDefault_13 : decode cX0_byDefault 13 = .ok (.iconst 1, 1) := dk_4 (dk_at dksX0_byDefault_0 13 rfl rfl)
theorem dX0_byDefault_14 : decode cX0_byDefault 14 = .ok (.ireturn, 1) := dk_172 (dk_at dksX0_byDefault_0 14 rfl rfl)
theorem dX0_byDefault_15 : decode cX0_byDefault 15 = .ok (.iconst 0, 1) := dk_3 (dk_at dksX0_byDefault_0 15 rfl rfl)
theorem dX0_byDefault_16 : decode cX0_byDefault 16 = .ok (.ireturn, 1) := dk_172 (dk_at dksX0_byDefault_0 16 rfl rfl)
abbrev cX0_item : ByteArray := method_8_code
def yX0_item : MethodName := ⟨RX0, "item", "(LHoldtag;IIII[J)I"⟩
def dkwX0_item_1 : List UInt8 := [172, 58, 6, 6, 172, 3, 172]
abbrev dktX0_item_1 : List UInt8 := dkwX0_item_1 ++ []
def dkwX0_item_0 : List UInt8 := [25, 5, 3, 42, 27, 28, 29, 21, 4, 182, 0, 33, 133, 80, 167, 0, 15, 58, 6, 4, 172, 58, 6, 5]
abbrev dktX0_item_0 : List UInt8 := dkwX0_item_0 ++ dktX0_item_1
theorem dksX0_item_0 : cX0_item.data.toList.drop 0 = dktX0_item_0 := by decide +kernel
theorem dksX0_item_1 : cX0_item.data.toList.drop 24 = dktX0_item_1 := dk_seg dksX0_item_0 24 rfl rfl
theorem dX0_item_0 : decode cX0_item 0 = .ok (.aload 5, 2) := dk_25 5 (dk_at dksX0_item_0 0 rfl rfl)
theorem dX0_item_2 : decode cX0_item 2 = .ok (.iconst 0, 1) := dk_3 (dk_at dksX0_item_0 2 rfl rfl)
theorem dX0_item_3 : decode cX0_item 3 = .ok (.aload_n 0, 1) := dk_42 (dk_at dksX0_item_0 3 rfl rfl)
theorem dX0_item_4 : decode cX0_item 4 = .ok (.iload_n 1, 1) := dk_27 (dk_at dksX0_item_0 4 rfl rfl)
theorem dX0_item_5 : decode cX0_item 5 = .ok (.iload_n 2, 1) := dk_28 (dk_at dksX0_item_0 5 rfl rfl)
theorem dX0_item_6 : decode cX0_item 6 = .ok (.iload_n 3, 1) := dk_29 (dk_at dksX0_item_0 6 rfl rfl)
theorem dX0_item_7 : decode cX0_item 7 = .ok (.iload 4, 2) := dk_21 4 (dk_at dksX0_item_0 7 rfl rfl)
theorem dX0_item_9 : decode cX0_item 9 = .ok (.invokevirtual 33, 3) := dk_182 0 33 (dk_at dksX0_item_0 9 rfl rfl)
theorem dX0_item_12 : decode cX0_item 12 = .ok (.i2l, 1) := dk_133 (dk_at dksX0_item_0 12 rfl rfl)
theorem dX0_item_13 : decode cX0_item 13 = .ok (.lastore, 1) := dk_80 (dk_at dksX0_item_0 13 rfl rfl)
theorem dX0_item_14 : decode cX0_item 14 = .ok (.goto 15, 3) := dk_167 0 15 (dk_at dksX0_item_0 14 rfl rfl)
theorem dX0_item_17 : decode cX0_item 17 = .ok (.astore 6, 2) := dk_58 6 (dk_at dksX0_item_0 17 rfl rfl)
theorem dX0_item_19 : decode cX0_item 19 = .ok (.iconst 1, 1) := dk_4 (dk_at dksX0_item_0 19 rfl rfl)
theorem dX0_item_20 : decode cX0_item 20 = .ok (.ireturn, 1) := dk_172 (dk_at dksX0_item_0 20 rfl rfl)
theorem dX0_item_21 : decode cX0_item 21 = .ok (.astore 6, 2) := dk_58 6 (dk_at dksX0_item_0 21 rfl rfl)
theorem dX0_item_23 : decode cX0_item 23 = .ok (.iconst 2, 1) := dk_5 (dk_at dksX0_item_0 23 rfl rfl)
theorem dX0_item_24 : decode cX0_item 24 = .ok (.ireturn, 1) := dk_172 (dk_at dksX0_item_1 0 rfl rfl)
theorem dX0_item_25 : decode cX0_item 25 = .ok (.astore 6, 2) := dk_58 6 (dk_at dksX0_item_1 1 rfl rfl)
theorem dX0_item_27 : decode cX0_item 27 = .ok (.iconst 3, 1) := dk_6 (dk_at dksX0_item_1 3 rfl rfl)
theorem dX0_item_28 : decode cX0_item 28 = .ok (.ireturn, 1) := dk_172 (dk_at dksX0_item_1 4 rfl rfl)
theorem dX0_item_29 : decode cX0_item 29 = .ok (.iconst 0, 1) := dk_3 (dk_at dksX0_item_1 5 rfl rfl)
theorem dX0_item_30 : decode cX0_item 30 = .ok (.ireturn, 1) := dk_172 (dk_at dksX0_item_1 6 rfl rfl)
abbrev cX0_meeting : ByteArray := method_9_code
def yX0_meeting : MethodName := ⟨RX0, "meeting", "(LHoldtag;II[J)I"⟩
def dkwX0_meeting_1 : List UInt8 := [172, 3, 172]
abbrev dktX0_meeting_1 : List UInt8 := dkwX0_meeting_1 ++ []
def dkwX0_meeting_0 : List UInt8 := [45, 3, 42, 27, 28, 182, 0, 37, 133, 80, 167, 0, 15, 58, 4, 4, 172, 58, 4, 5, 172, 58, 4, 6]
abbrev dktX0_meeting_0 : List UInt8 := dkwX0_meeting_0 ++ dktX0_meeting_1
theorem dksX0_meeting_0 : cX0_meeting.data.toList.drop 0 = dktX0_meeting_0 := by decide +kernel
theorem dksX0_meeting_1 : cX0_meeting.data.toList.drop 24 = dktX0_meeting_1 := dk_seg dksX0_meeting_0 24 rfl rfl
theorem dX0_meeting_0 : decode cX0_meeting 0 = .ok (.aload_n 3, 1) := dk_45 (dk_at dksX0_meeting_0 0 rfl rfl)
theorem dX0_meeting_1 : decode cX0_meeting 1 = .ok (.iconst 0, 1) := dk_3 (dk_at dksX0_meeting_0 1 rfl rfl)
theorem dX0_meeting_2 : decode cX0_meeting 2 = .ok (.aload_n 0, 1) := dk_42 (dk_at dksX0_meeting_0 2 rfl rfl)
theorem dX0_meeting_3 : decode cX0_meeting 3 = .ok (.iload_n 1, 1) := dk_27 (dk_at dksX0_meeting_0 3 rfl rfl)
theorem dX0_meeting_4 : decode cX0_meeting 4 = .ok (.iload_n 2, 1) := dk_28 (dk_at dksX0_meeting_0 4 rfl rfl)
theorem dX0_meeting_5 : decode cX0_meeting 5 = .ok (.invokevirtual 37, 3) := dk_182 0 37 (dk_at dksX0_meeting_0 5 rfl rfl)
theorem dX0_meeting_8 : decode cX0_meeting 8 = .ok (.i2l, 1) := dk_133 (dk_at dksX0_meeting_0 8 rfl rfl)
theorem dX0_meeting_9 : decode cX0_meeting 9 = .ok (.lastore, 1) := dk_80 (dk_at dksX0_meeting_0 9 rfl rfl)
theorem dX0_meeting_10 : decode cX0_meeting 10 = .ok (.goto 15, 3) := dk_167 0 15 (dk_at dksX0_meeting_0 10 rfl rfl)
theorem dX0_meeting_13 : decode cX0_meeting 13 = .ok (.astore 4, 2) := dk_58 4 (dk_at dksX0_meeting_0 13 rfl rfl)
theorem dX0_meeting_15 : decode cX0_meeting 15 = .ok (.iconst 1, 1) := dk_4 (dk_at dksX0_meeting_0 15 rfl rfl)
theorem dX0_meeting_16 : decode cX0_meeting 16 = .ok (.ireturn, 1) := dk_172 (dk_at dksX0_meeting_0 16 rfl rfl)
theorem dX0_meeting_17 : decode cX0_meeting 17 = .ok (.astore 4, 2) := dk_58 4 (dk_at dksX0_meeting_0 17 rfl rfl)
theorem dX0_meeting_19 : decode cX0_meeting 19 = .ok (.iconst 2, 1) := dk_5 (dk_at dksX0_meeting_0 19 rfl rfl)
theorem dX0_meeting_20 : decode cX0_meeting 20 = .ok (.ireturn, 1) := dk_172 (dk_at dksX0_meeting_0 20 rfl rfl)
theorem dX0_meeting_21 : decode cX0_meeting 21 = .ok (.astore 4, 2) := dk_58 4 (dk_at dksX0_meeting_0 21 rfl rfl)
theorem dX0_meeting_23 : decode cX0_meeting 23 = .ok (.iconst 3, 1) := dk_6 (dk_at dksX0_meeting_0 23 rfl rfl)
theorem dX0_meeting_24 : decode cX0_meeting 24 = .ok (.ireturn, 1) := dk_172 (dk_at dksX0_meeting_1 0 rfl rfl)
theorem dX0_meeting_25 : decode cX0_meeting 25 = .ok (.iconst 0, 1) := dk_3 (dk_at dksX0_meeting_1 1 rfl rfl)
theorem dX0_meeting_26 : decode cX0_meeting 26 = .ok (.ireturn, 1) := dk_172 (dk_at dksX0_meeting_1 2 rfl rfl)
abbrev cX0_event : ByteArray := method_10_code
def yX0_event : MethodName := ⟨RX0, "event", "(LHoldtag;II[J)I"⟩
def dkwX0_event_0 : List UInt8 := [45, 3, 42, 27, 28, 182, 0, 40, 133, 80, 167, 0, 7, 58, 4, 4, 172, 3, 172]
abbrev dktX0_event_0 : List UInt8 := dkwX0_event_0 ++ []
theorem dksX0_event_0 : cX0_event.data.toList.drop 0 = dktX0_event_0 := by decide +kernel
theorem dX0_event_0 : decode cX0_event 0 = .ok (.aload_n 3, 1) := dk_45 (dk_at dksX0_event_0 0 rfl rfl)
theorem dX0_event_1 : decode cX0_event 1 = .ok (.iconst 0, 1) := dk_3 (dk_at dksX0_event_0 1 rfl rfl)
theorem dX0_event_2 : decode cX0_event 2 = .ok (.aload_n 0, 1) := dk_42 (dk_at dksX0_event_0 2 rfl rfl)
theorem dX0_event_3 : decode cX0_event 3 = .ok (.iload_n 1, 1) := dk_27 (dk_at dksX0_event_0 3 rfl rfl)
theorem dX0_event_4 : decode cX0_event 4 = .ok (.iload_n 2, 1) := dk_28 (dk_at dksX0_event_0 4 rfl rfl)
theorem dX0_event_5 : decode cX0_event 5 = .ok (.invokevirtual 40, 3) := dk_182 0 40 (dk_at dksX0_event_0 5 rfl rfl)
theorem dX0_event_8 : decode cX0_event 8 = .ok (.i2l, 1) := dk_133 (dk_at dksX0_event_0 8 rfl rfl)
theorem dX0_event_9 : decode cX0_event 9 = .ok (.lastore, 1) := dk_80 (dk_at dksX0_event_0 9 rfl rfl)
theorem dX0_event_10 : decode cX0_event 10 = .ok (.goto 7, 3) := dk_167 0 7 (dk_at dksX0_event_0 10 rfl rfl)
theorem dX0_event_13 : decode cX0_event 13 = .ok (.astore 4, 2) := dk_58 4 (dk_at dksX0_event_0 13 rfl rfl)
theorem dX0_event_15 : decode cX0_event 15 = .ok (.iconst 1, 1) := dk_4 (dk_at dksX0_event_0 15 rfl rfl)
theorem dX0_event_16 : decode cX0_event 16 = .ok (.ireturn, 1) := dk_172 (dk_at dksX0_event_0 16 rfl rfl)
theorem dX0_event_17 : decode cX0_event 17 = .ok (.iconst 0, 1) := dk_3 (dk_at dksX0_event_0 17 rfl rfl)
theorem dX0_event_18 : decode cX0_event 18 = .ok (.ireturn, 1) := dk_172 (dk_at dksX0_event_0 18 rfl rfl)
abbrev cX0_move : ByteArray := method_11_code
def yX0_move : MethodName := ⟨RX0, "move", "(LHoldtag;II[J)I"⟩
def dkwX0_move_0 : List UInt8 := [45, 3, 42, 27, 28, 182, 0, 43, 133, 80, 167, 0, 11, 58, 4, 4, 172, 58, 4, 5, 172, 3, 172]
abbrev dktX0_move_0 : List UInt8 := dkwX0_move_0 ++ []
theorem dksX0_move_0 : cX0_move.data.toList.drop 0 = dktX0_move_0 := by decide +kernel
theorem dX0_move_0 : decode cX0_move 0 = .ok (.aload_n 3, 1) := dk_45 (dk_at dksX0_move_0 0 rfl rfl)
theorem dX0_move_1 : decode cX0_move 1 = .ok (.iconst 0, 1) := dk_3 (dk_at dksX0_move_0 1 rfl rfl)
theorem dX0_move_2 : decode cX0_move 2 = .ok (.aload_n 0, 1) := dk_42 (dk_at dksX0_move_0 2 rfl rfl)
theorem dX0_move_3 : decode cX0_move 3 = .ok (.iload_n 1, 1) := dk_27 (dk_at dksX0_move_0 3 rfl rfl)
theorem dX0_move_4 : decode cX0_move 4 = .ok (.iload_n 2, 1) := dk_28 (dk_at dksX0_move_0 4 rfl rfl)
theorem dX0_move_5 : decode cX0_move 5 = .ok (.invokevirtual 43, 3) := dk_182 0 43 (dk_at dksX0_move_0 5 rfl rfl)
theorem dX0_move_8 : decode cX0_move 8 = .ok (.i2l, 1) := dk_133 (dk_at dksX0_move_0 8 rfl rfl)
theorem dX0_move_9 : decode cX0_move 9 = .ok (.lastore, 1) := dk_80 (dk_at dksX0_move_0 9 rfl rfl)
theorem dX0_move_10 : decode cX0_move 10 = .ok (.goto 11, 3) := dk_167 0 11 (dk_at dksX0_move_0 10 rfl rfl)
theorem dX0_move_13 : decode cX0_move 13 = .ok (.astore 4, 2) := dk_58 4 (dk_at dksX0_move_0 13 rfl rfl)
theorem dX0_move_15 : decode cX0_move 15 = .ok (.iconst 1, 1) := dk_4 (dk_at dksX0_move_0 15 rfl rfl)
theorem dX0_move_16 : decode cX0_move 16 = .ok (.ireturn, 1) := dk_172 (dk_at dksX0_move_0 16 rfl rfl)
theorem dX0_move_17 : decode cX0_move 17 = .ok (.astore 4, 2) := dk_58 4 (dk_at dksX0_move_0 17 rfl rfl)
theorem dX0_move_19 : decode cX0_move 19 = .ok (.iconst 2, 1) := dk_5 (dk_at dksX0_move_0 19 rfl rfl)
theorem dX0_move_20 : decode cX0_move 20 = .ok (.ireturn, 1) := dk_172 (dk_at dksX0_move_0 20 rfl rfl)
theorem dX0_move_21 : decode cX0_move 21 = .ok (.iconst 0, 1) := dk_3 (dk_at dksX0_move_0 21 rfl rfl)
theorem dX0_move_22 : decode cX0_move 22 = .ok (.ireturn, 1) := dk_172 (dk_at dksX0_move_0 22 rfl rfl)
abbrev cX0_edit : ByteArray := method_12_code
def yX0_edit : MethodName := ⟨RX0, "edit", "(LHoldtag;II[J)I"⟩
def dkwX0_edit_1 : List UInt8 := [172, 3, 172]
abbrev dktX0_edit_1 : List UInt8 := dkwX0_edit_1 ++ []
def dkwX0_edit_0 : List UInt8 := [45, 3, 42, 27, 28, 182, 0, 46, 133, 80, 167, 0, 15, 58, 4, 4, 172, 58, 4, 5, 172, 58, 4, 6]
abbrev dktX0_edit_0 : List UInt8 := dkwX0_edit_0 ++ dktX0_edit_1
theorem dksX0_edit_0 : cX0_edit.data.toList.drop 0 = dktX0_edit_0 := by decide +kernel
theorem dksX0_edit_1 : cX0_edit.data.toList.drop 24 = dktX0_edit_1 := dk_seg dksX0_edit_0 24 rfl rfl
theorem dX0_edit_0 : decode cX0_edit 0 = .ok (.aload_n 3, 1) := dk_45 (dk_at dksX0_edit_0 0 rfl rfl)
theorem dX0_edit_1 : decode cX0_edit 1 = .ok (.iconst 0, 1) := dk_3 (dk_at dksX0_edit_0 1 rfl rfl)
theorem dX0_edit_2 : decode cX0_edit 2 = .ok (.aload_n 0, 1) := dk_42 (dk_at dksX0_edit_0 2 rfl rfl)
theorem dX0_edit_3 : decode cX0_edit 3 = .ok (.iload_n 1, 1) := dk_27 (dk_at dksX0_edit_0 3 rfl rfl)
theorem dX0_edit_4 : decode cX0_edit 4 = .ok (.iload_n 2, 1) := dk_28 (dk_at dksX0_edit_0 4 rfl rfl)
theorem dX0_edit_5 : decode cX0_edit 5 = .ok (.invokevirtual 46, 3) := dk_182 0 46 (dk_at dksX0_edit_0 5 rfl rfl)
theorem dX0_edit_8 : decode cX0_edit 8 = .ok (.i2l, 1) := dk_133 (dk_at dksX0_edit_0 8 rfl rfl)
theorem dX0_edit_9 : decode cX0_edit 9 = .ok (.lastore, 1) := dk_80 (dk_at dksX0_edit_0 9 rfl rfl)
theorem dX0_edit_10 : decode cX0_edit 10 = .ok (.goto 15, 3) := dk_167 0 15 (dk_at dksX0_edit_0 10 rfl rfl)
theorem dX0_edit_13 : decode cX0_edit 13 = .ok (.astore 4, 2) := dk_58 4 (dk_at dksX0_edit_0 13 rfl rfl)
theorem dX0_edit_15 : decode cX0_edit 15 = .ok (.iconst 1, 1) := dk_4 (dk_at dksX0_edit_0 15 rfl rfl)
theorem dX0_edit_16 : decode cX0_edit 16 = .ok (.ireturn, 1) := dk_172 (dk_at dksX0_edit_0 16 rfl rfl)
theorem dX0_edit_17 : decode cX0_edit 17 = .ok (.astore 4, 2) := dk_58 4 (dk_at dksX0_edit_0 17 rfl rfl)
theorem dX0_edit_19 : decode cX0_edit 19 = .ok (.iconst 2, 1) := dk_5 (dk_at dksX0_edit_0 19 rfl rfl)
theorem dX0_edit_20 : decode cX0_edit 20 = .ok (.ireturn, 1) := dk_172 (dk_at dksX0_edit_0 20 rfl rfl)
theorem dX0_edit_21 : decode cX0_edit 21 = .ok (.astore 4, 2) := dk_58 4 (dk_at dksX0_edit_0 21 rfl rfl)
theorem dX0_edit_23 : decode cX0_edit 23 = .ok (.iconst 3, 1) := dk_6 (dk_at dksX0_edit_0 23 rfl rfl)
theorem dX0_edit_24 : decode cX0_edit 24 = .ok (.ireturn, 1) := dk_172 (dk_at dksX0_edit_1 0 rfl rfl)
theorem dX0_edit_25 : decode cX0_edit 25 = .ok (.iconst 0, 1) := dk_3 (dk_at dksX0_edit_1 1 rfl rfl)
theorem dX0_edit_26 : decode cX0_edit 26 = .ok (.ireturn, 1) := dk_172 (dk_at dksX0_edit_1 2 rfl rfl)
abbrev cX0_delete : ByteArray := method_13_code
def yX0_delete : MethodName := ⟨RX0, "delete", "(LHoldtag;I[J)I"⟩
def dkwX0_delete_0 : List UInt8 := [44, 3, 42, 27, 182, 0, 49, 133, 80, 167, 0, 9, 78, 4, 172, 78, 5, 172, 3, 172]
abbrev dktX0_delete_0 : List UInt8 := dkwX0_delete_0 ++ []
theorem dksX0_delete_0 : cX0_delete.data.toList.drop 0 = dktX0_delete_0 := by decide +kernel
theorem dX0_delete_0 : decode cX0_delete 0 = .ok (.aload_n 2, 1) := dk_44 (dk_at dksX0_delete_0 0 rfl rfl)
theorem dX0_delete_1 : decode cX0_delete 1 = .ok (.iconst 0, 1) := dk_3 (dk_at dksX0_delete_0 1 rfl rfl)
theorem dX0_delete_2 : decode cX0_delete 2 = .ok (.aload_n 0, 1) := dk_42 (dk_at dksX0_delete_0 2 rfl rfl)
theorem dX0_delete_3 : decode cX0_delete 3 = .ok (.iload_n 1, 1) := dk_27 (dk_at dksX0_delete_0 3 rfl rfl)
theorem dX0_delete_4 : decode cX0_delete 4 = .ok (.invokevirtual 49, 3) := dk_182 0 49 (dk_at dksX0_delete_0 4 rfl rfl)
theorem dX0_delete_7 : decode cX0_delete 7 = .ok (.i2l, 1) := dk_133 (dk_at dksX0_delete_0 7 rfl rfl)
theorem dX0_delete_8 : decode cX0_delete 8 = .ok (.lastore, 1) := dk_80 (dk_at dksX0_delete_0 8 rfl rfl)
theorem dX0_delete_9 : decode cX0_delete 9 = .ok (.goto 9, 3) := dk_167 0 9 (dk_at dksX0_delete_0 9 rfl rfl)
theorem dX0_delete_12 : decode cX0_delete 12 = .ok (.astore_n 3, 1) := dk_78 (dk_at dksX0_delete_0 12 rfl rfl)
theorem dX0_delete_13 : decode cX0_delete 13 = .ok (.iconst 1, 1) := dk_4 (dk_at dksX0_delete_0 13 rfl rfl)
theorem dX0_delete_14 : decode cX0_delete 14 = .ok (.ireturn, 1) := dk_172 (dk_at dksX0_delete_0 14 rfl rfl)
theorem dX0_delete_15 : decode cX0_delete 15 = .ok (.astore_n 3, 1) := dk_78 (dk_at dksX0_delete_0 15 rfl rfl)
theorem dX0_delete_16 : decode cX0_delete 16 = .ok (.iconst 2, 1) := dk_5 (dk_at dksX0_delete_0 16 rfl rfl)
theorem dX0_delete_17 : decode cX0_delete 17 = .ok (.ireturn, 1) := dk_172 (dk_at dksX0_delete_0 17 rfl rfl)
theorem dX0_delete_18 : decode cX0_delete 18 = .ok (.iconst 0, 1) := dk_3 (dk_at dksX0_delete_0 18 rfl rfl)
theorem dX0_delete_19 : decode cX0_delete 19 = .ok (.ireturn, 1) := dk_172 (dk_at dksX0_delete_0 19 rfl rfl)
abbrev cX0_purge : ByteArray := method_14_code
def yX0_purge : MethodName := ⟨RX0, "purge", "(LHoldtag;I[J)I"⟩
def dkwX0_purge_1 : List UInt8 := [172, 3, 172]
abbrev dktX0_purge_1 : List UInt8 := dkwX0_purge_1 ++ []
def dkwX0_purge_0 : List UInt8 := [44, 3, 42, 27, 182, 0, 52, 153, 0, 7, 10, 167, 0, 4, 9, 80, 167, 0, 9, 78, 4, 172, 78, 5]
abbrev dktX0_purge_0 : List UInt8 := dkwX0_purge_0 ++ dktX0_purge_1
theorem dksX0_purge_0 : cX0_purge.data.toList.drop 0 = dktX0_purge_0 := by decide +kernel
theorem dksX0_purge_1 : cX0_purge.data.toList.drop 24 = dktX0_purge_1 := dk_seg dksX0_purge_0 24 rfl rfl
theorem dX0_purge_0 : decode cX0_purge 0 = .ok (.aload_n 2, 1) := dk_44 (dk_at dksX0_purge_0 0 rfl rfl)
theorem dX0_purge_1 : decode cX0_purge 1 = .ok (.iconst 0, 1) := dk_3 (dk_at dksX0_purge_0 1 rfl rfl)
theorem dX0_purge_2 : decode cX0_purge 2 = .ok (.aload_n 0, 1) := dk_42 (dk_at dksX0_purge_0 2 rfl rfl)
theorem dX0_purge_3 : decode cX0_purge 3 = .ok (.iload_n 1, 1) := dk_27 (dk_at dksX0_purge_0 3 rfl rfl)
theorem dX0_purge_4 : decode cX0_purge 4 = .ok (.invokevirtual 52, 3) := dk_182 0 52 (dk_at dksX0_purge_0 4 rfl rfl)
theorem dX0_purge_7 : decode cX0_purge 7 = .ok (.ifCond .eq 7, 3) := dk_153 0 7 (dk_at dksX0_purge_0 7 rfl rfl)
theorem dX0_purge_10 : decode cX0_purge 10 = .ok (.lconst 1, 1) := dk_10 (dk_at dksX0_purge_0 10 rfl rfl)
theorem dX0_purge_11 : decode cX0_purge 11 = .ok (.goto 4, 3) := dk_167 0 4 (dk_at dksX0_purge_0 11 rfl rfl)
theorem dX0_purge_14 : decode cX0_purge 14 = .ok (.lconst 0, 1) := dk_9 (dk_at dksX0_purge_0 14 rfl rfl)
theorem dX0_purge_15 : decode cX0_purge 15 = .ok (.lastore, 1) := dk_80 (dk_at dksX0_purge_0 15 rfl rfl)
theorem dX0_purge_16 : decode cX0_purge 16 = .ok (.goto 9, 3) := dk_167 0 9 (dk_at dksX0_purge_0 16 rfl rfl)
theorem dX0_purge_19 : decode cX0_purge 19 = .ok (.astore_n 3, 1) := dk_78 (dk_at dksX0_purge_0 19 rfl rfl)
theorem dX0_purge_20 : decode cX0_purge 20 = .ok (.iconst 1, 1) := dk_4 (dk_at dksX0_purge_0 20 rfl rfl)
theorem dX0_purge_21 : decode cX0_purge 21 = .ok (.ireturn, 1) := dk_172 (dk_at dksX0_purge_0 21 rfl rfl)
theorem dX0_purge_22 : decode cX0_purge 22 = .ok (.astore_n 3, 1) := dk_78 (dk_at dksX0_purge_0 22 rfl rfl)
theorem dX0_purge_23 : decode cX0_purge 23 = .ok (.iconst 2, 1) := dk_5 (dk_at dksX0_purge_0 23 rfl rfl)
theorem dX0_purge_24 : decode cX0_purge 24 = .ok (.ireturn, 1) := dk_172 (dk_at dksX0_purge_1 0 rfl rfl)
theorem dX0_purge_25 : decode cX0_purge 25 = .ok (.iconst 0, 1) := dk_3 (dk_at dksX0_purge_1 1 rfl rfl)
theorem dX0_purge_26 : decode cX0_purge 26 = .ok (.ireturn, 1) := dk_172 (dk_at dksX0_purge_1 2 rfl rfl)
abbrev cX0_recover : ByteArray := method_15_code
def yX0_recover : MethodName := ⟨RX0, "recover", "(LHoldtag;I[J)I"⟩
def dkwX0_recover_0 : List UInt8 := [44, 3, 42, 27, 182, 0, 56, 133, 80, 167, 0, 9, 78, 4, 172, 78, 5, 172, 3, 172]
abbrev dktX0_recover_0 : List UInt8 := dkwX0_recover_0 ++ []
theorem dksX0_recover_0 : cX0_recover.data.toList.drop 0 = dktX0_recover_0 := by decide +kernel
theorem dX0_recover_0 : decode cX0_recover 0 = .ok (.aload_n 2, 1) := dk_44 (dk_at dksX0_recover_0 0 rfl rfl)
theorem dX0_recover_1 : decode cX0_recover 1 = .ok (.iconst 0, 1) := dk_3 (dk_at dksX0_recover_0 1 rfl rfl)
theorem dX0_recover_2 : decode cX0_recover 2 = .ok (.aload_n 0, 1) := dk_42 (dk_at dksX0_recover_0 2 rfl rfl)
theorem dX0_recover_3 : decode cX0_recover 3 = .ok (.iload_n 1, 1) := dk_27 (dk_at dksX0_recover_0 3 rfl rfl)
theorem dX0_recover_4 : decode cX0_recover 4 = .ok (.invokevirtual 56, 3) := dk_182 0 56 (dk_at dksX0_recover_0 4 rfl rfl)
theorem dX0_recover_7 : decode cX0_recover 7 = .ok (.i2l, 1) := dk_133 (dk_at dksX0_recover_0 7 rfl rfl)
theorem dX0_recover_8 : decode cX0_recover 8 = .ok (.lastore, 1) := dk_80 (dk_at dksX0_recover_0 8 rfl rfl)
theorem dX0_recover_9 : decode cX0_recover 9 = .ok (.goto 9, 3) := dk_167 0 9 (dk_at dksX0_recover_0 9 rfl rfl)
theorem dX0_recover_12 : decode cX0_recover 12 = .ok (.astore_n 3, 1) := dk_78 (dk_at dksX0_recover_0 12 rfl rfl)
theorem dX0_recover_13 : decode cX0_recover 13 = .ok (.iconst 1, 1) := dk_4 (dk_at dksX0_recover_0 13 rfl rfl)
theorem dX0_recover_14 : decode cX0_recover 14 = .ok (.ireturn, 1) := dk_172 (dk_at dksX0_recover_0 14 rfl rfl)
theorem dX0_recover_15 : decode cX0_recover 15 = .ok (.astore_n 3, 1) := dk_78 (dk_at dksX0_recover_0 15 rfl rfl)
theorem dX0_recover_16 : decode cX0_recover 16 = .ok (.iconst 2, 1) := dk_5 (dk_at dksX0_recover_0 16 rfl rfl)
theorem dX0_recover_17 : decode cX0_recover 17 = .ok (.ireturn, 1) := dk_172 (dk_at dksX0_recover_0 17 rfl rfl)
theorem dX0_recover_18 : decode cX0_recover 18 = .ok (.iconst 0, 1) := dk_3 (dk_at dksX0_recover_0 18 rfl rfl)
theorem dX0_recover_19 : decode cX0_recover 19 = .ok (.ireturn, 1) := dk_172 (dk_at dksX0_recover_0 19 rfl rfl)
abbrev cX0_keep : ByteArray := method_16_code
def yX0_keep : MethodName := ⟨RX0, "keep", "(LHoldtag;II[J)I"⟩
def dkwX0_keep_0 : List UInt8 := [45, 3, 42, 27, 28, 182, 0, 59, 133, 80, 167, 0, 7, 58, 4, 4, 172, 3, 172]
abbrev dktX0_keep_0 : List UInt8 := dkwX0_keep_0 ++ []
theorem dksX0_keep_0 : cX0_keep.data.toList.drop 0 = dktX0_keep_0 := by decide +kernel
theorem dX0_keep_0 : decode cX0_keep 0 = .ok (.aload_n 3, 1) := dk_45 (dk_at dksX0_keep_0 0 rfl rfl)
theorem dX0_keep_1 : decode cX0_keep 1 = .ok (.iconst 0, 1) := dk_3 (dk_at dksX0_keep_0 1 rfl rfl)
theorem dX0_keep_2 : decode cX0_keep 2 = .ok (.aload_n 0, 1) := dk_42 (dk_at dksX0_keep_0 2 rfl rfl)
theorem dX0_keep_3 : decode cX0_keep 3 = .ok (.iload_n 1, 1) := dk_27 (dk_at dksX0_keep_0 3 rfl rfl)
theorem dX0_keep_4 : decode cX0_keep 4 = .ok (.iload_n 2, 1) := dk_28 (dk_at dksX0_keep_0 4 rfl rfl)
theorem dX0_keep_5 : decode cX0_keep 5 = .ok (.invokevirtual 59, 3) := dk_182 0 59 (dk_at dksX0_keep_0 5 rfl rfl)
theorem dX0_keep_8 : decode cX0_keep 8 = .ok (.i2l, 1) := dk_133 (dk_at dksX0_keep_0 8 rfl rfl)
theorem dX0_keep_9 : decode cX0_keep 9 = .ok (.lastore, 1) := dk_80 (dk_at dksX0_keep_0 9 rfl rfl)
theorem dX0_keep_10 : decode cX0_keep 10 = .ok (.goto 7, 3) := dk_167 0 7 (dk_at dksX0_keep_0 10 rfl rfl)
theorem dX0_keep_13 : decode cX0_keep 13 = .ok (.astore 4, 2) := dk_58 4 (dk_at dksX0_keep_0 13 rfl rfl)
theorem dX0_keep_15 : decode cX0_keep 15 = .ok (.iconst 1, 1) := dk_4 (dk_at dksX0_keep_0 15 rfl rfl)
theorem dX0_keep_16 : decode cX0_keep 16 = .ok (.ireturn, 1) := dk_172 (dk_at dksX0_keep_0 16 rfl rfl)
theorem dX0_keep_17 : decode cX0_keep 17 = .ok (.iconst 0, 1) := dk_3 (dk_at dksX0_keep_0 17 rfl rfl)
theorem dX0_keep_18 : decode cX0_keep 18 = .ok (.ireturn, 1) := dk_172 (dk_at dksX0_keep_0 18 rfl rfl)
abbrev cX0_pass : ByteArray := method_17_code
def yX0_pass : MethodName := ⟨RX0, "pass", "(LHoldtag;I[J)I"⟩
def dkwX0_pass_0 : List UInt8 := [44, 3, 42, 27, 182, 0, 62, 133, 80, 167, 0, 6, 78, 4, 172, 3, 172]
abbrev dktX0_pass_0 : List UInt8 := dkwX0_pass_0 ++ []
theorem dksX0_pass_0 : cX0_pass.data.toList.drop 0 = dktX0_pass_0 := by decide +kernel
theorem dX0_pass_0 : decode cX0_pass 0 = .ok (.aload_n 2, 1) := dk_44 (dk_at dksX0_pass_0 0 rfl rfl)
theorem dX0_pass_1 : decode cX0_pass 1 = .ok (.iconst 0, 1) := dk_3 (dk_at dksX0_pass_0 1 rfl rfl)
theorem dX0_pass_2 : decode cX0_pass 2 = .ok (.aload_n 0, 1) := dk_42 (dk_at dksX0_pass_0 2 rfl rfl)
theorem dX0_pass_3 : decode cX0_pass 3 = .ok (.iload_n 1, 1) := dk_27 (dk_at dksX0_pass_0 3 rfl rfl)
theorem dX0_pass_4 : decode cX0_pass 4 = .ok (.invokevirtual 62, 3) := dk_182 0 62 (dk_at dksX0_pass_0 4 rfl rfl)
theorem dX0_pass_7 : decode cX0_pass 7 = .ok (.i2l, 1) := dk_133 (dk_at dksX0_pass_0 7 rfl rfl)
theorem dX0_pass_8 : decode cX0_pass 8 = .ok (.lastore, 1) := dk_80 (dk_at dksX0_pass_0 8 rfl rfl)
theorem dX0_pass_9 : decode cX0_pass 9 = .ok (.goto 6, 3) := dk_167 0 6 (dk_at dksX0_pass_0 9 rfl rfl)
theorem dX0_pass_12 : decode cX0_pass 12 = .ok (.astore_n 3, 1) := dk_78 (dk_at dksX0_pass_0 12 rfl rfl)
theorem dX0_pass_13 : decode cX0_pass 13 = .ok (.iconst 1, 1) := dk_4 (dk_at dksX0_pass_0 13 rfl rfl)
theorem dX0_pass_14 : decode cX0_pass 14 = .ok (.ireturn, 1) := dk_172 (dk_at dksX0_pass_0 14 rfl rfl)
theorem dX0_pass_15 : decode cX0_pass 15 = .ok (.iconst 0, 1) := dk_3 (dk_at dksX0_pass_0 15 rfl rfl)
theorem dX0_pass_16 : decode cX0_pass 16 = .ok (.ireturn, 1) := dk_172 (dk_at dksX0_pass_0 16 rfl rfl)
abbrev cX0_hold : ByteArray := method_18_code
def yX0_hold : MethodName := ⟨RX0, "hold", "(LHoldtag;IIII[J)I"⟩
def dkwX0_hold_1 : List UInt8 := [172, 3, 172]
abbrev dktX0_hold_1 : List UInt8 := dkwX0_hold_1 ++ []
def dkwX0_hold_0 : List UInt8 := [25, 5, 3, 42, 27, 28, 29, 21, 4, 182, 0, 65, 133, 80, 167, 0, 11, 58, 6, 4, 172, 58, 6, 5]
abbrev dktX0_hold_0 : List UInt8 := dkwX0_hold_0 ++ dktX0_hold_1
theorem dksX0_hold_0 : cX0_hold.data.toList.drop 0 = dktX0_hold_0 := by decide +kernel
theorem dksX0_hold_1 : cX0_hold.data.toList.drop 24 = dktX0_hold_1 := dk_seg dksX0_hold_0 24 rfl rfl
theorem dX0_hold_0 : decode cX0_hold 0 = .ok (.aload 5, 2) := dk_25 5 (dk_at dksX0_hold_0 0 rfl rfl)
theorem dX0_hold_2 : decode cX0_hold 2 = .ok (.iconst 0, 1) := dk_3 (dk_at dksX0_hold_0 2 rfl rfl)
theorem dX0_hold_3 : decode cX0_hold 3 = .ok (.aload_n 0, 1) := dk_42 (dk_at dksX0_hold_0 3 rfl rfl)
theorem dX0_hold_4 : decode cX0_hold 4 = .ok (.iload_n 1, 1) := dk_27 (dk_at dksX0_hold_0 4 rfl rfl)
theorem dX0_hold_5 : decode cX0_hold 5 = .ok (.iload_n 2, 1) := dk_28 (dk_at dksX0_hold_0 5 rfl rfl)
theorem dX0_hold_6 : decode cX0_hold 6 = .ok (.iload_n 3, 1) := dk_29 (dk_at dksX0_hold_0 6 rfl rfl)
theorem dX0_hold_7 : decode cX0_hold 7 = .ok (.iload 4, 2) := dk_21 4 (dk_at dksX0_hold_0 7 rfl rfl)
theorem dX0_hold_9 : decode cX0_hold 9 = .ok (.invokevirtual 65, 3) := dk_182 0 65 (dk_at dksX0_hold_0 9 rfl rfl)
theorem dX0_hold_12 : decode cX0_hold 12 = .ok (.i2l, 1) := dk_133 (dk_at dksX0_hold_0 12 rfl rfl)
theorem dX0_hold_13 : decode cX0_hold 13 = .ok (.lastore, 1) := dk_80 (dk_at dksX0_hold_0 13 rfl rfl)
theorem dX0_hold_14 : decode cX0_hold 14 = .ok (.goto 11, 3) := dk_167 0 11 (dk_at dksX0_hold_0 14 rfl rfl)
theorem dX0_hold_17 : decode cX0_hold 17 = .ok (.astore 6, 2) := dk_58 6 (dk_at dksX0_hold_0 17 rfl rfl)
theorem dX0_hold_19 : decode cX0_hold 19 = .ok (.iconst 1, 1) := dk_4 (dk_at dksX0_hold_0 19 rfl rfl)
theorem dX0_hold_20 : decode cX0_hold 20 = .ok (.ireturn, 1) := dk_172 (dk_at dksX0_hold_0 20 rfl rfl)
theorem dX0_hold_21 : decode cX0_hold 21 = .ok (.astore 6, 2) := dk_58 6 (dk_at dksX0_hold_0 21 rfl rfl)
theorem dX0_hold_23 : decode cX0_hold 23 = .ok (.iconst 2, 1) := dk_5 (dk_at dksX0_hold_0 23 rfl rfl)
theorem dX0_hold_24 : decode cX0_hold 24 = .ok (.ireturn, 1) := dk_172 (dk_at dksX0_hold_1 0 rfl rfl)
theorem dX0_hold_25 : decode cX0_hold 25 = .ok (.iconst 0, 1) := dk_3 (dk_at dksX0_hold_1 1 rfl rfl)
theorem dX0_hold_26 : decode cX0_hold 26 = .ok (.ireturn, 1) := dk_172 (dk_at dksX0_hold_1 2 rfl rfl)
abbrev cX0_release : ByteArray := method_19_code
def yX0_release : MethodName := ⟨RX0, "release", "(LHoldtag;I[J)I"⟩
def dkwX0_release_0 : List UInt8 := [44, 3, 42, 27, 182, 0, 68, 133, 80, 167, 0, 9, 78, 4, 172, 78, 5, 172, 3, 172]
abbrev dktX0_release_0 : List UInt8 := dkwX0_release_0 ++ []
theorem dksX0_release_0 : cX0_release.data.toList.drop 0 = dktX0_release_0 := by decide +kernel
theorem dX0_release_0 : decode cX0_release 0 = .ok (.aload_n 2, 1) := dk_44 (dk_at dksX0_release_0 0 rfl rfl)
theorem dX0_release_1 : decode cX0_release 1 = .ok (.iconst 0, 1) := dk_3 (dk_at dksX0_release_0 1 rfl rfl)
theorem dX0_release_2 : decode cX0_release 2 = .ok (.aload_n 0, 1) := dk_42 (dk_at dksX0_release_0 2 rfl rfl)
theorem dX0_release_3 : decode cX0_release 3 = .ok (.iload_n 1, 1) := dk_27 (dk_at dksX0_release_0 3 rfl rfl)
theorem dX0_release_4 : decode cX0_release 4 = .ok (.invokevirtual 68, 3) := dk_182 0 68 (dk_at dksX0_release_0 4 rfl rfl)
theorem dX0_release_7 : decode cX0_release 7 = .ok (.i2l, 1) := dk_133 (dk_at dksX0_release_0 7 rfl rfl)
theorem dX0_release_8 : decode cX0_release 8 = .ok (.lastore, 1) := dk_80 (dk_at dksX0_release_0 8 rfl rfl)
theorem dX0_release_9 : decode cX0_release 9 = .ok (.goto 9, 3) := dk_167 0 9 (dk_at dksX0_release_0 9 rfl rfl)
theorem dX0_release_12 : decode cX0_release 12 = .ok (.astore_n 3, 1) := dk_78 (dk_at dksX0_release_0 12 rfl rfl)
theorem dX0_release_13 : decode cX0_release 13 = .ok (.iconst 1, 1) := dk_4 (dk_at dksX0_release_0 13 rfl rfl)
theorem dX0_release_14 : decode cX0_release 14 = .ok (.ireturn, 1) := dk_172 (dk_at dksX0_release_0 14 rfl rfl)
theorem dX0_release_15 : decode cX0_release 15 = .ok (.astore_n 3, 1) := dk_78 (dk_at dksX0_release_0 15 rfl rfl)
theorem dX0_release_16 : decode cX0_release 16 = .ok (.iconst 2, 1) := dk_5 (dk_at dksX0_release_0 16 rfl rfl)
theorem dX0_release_17 : decode cX0_release 17 = .ok (.ireturn, 1) := dk_172 (dk_at dksX0_release_0 17 rfl rfl)
theorem dX0_release_18 : decode cX0_release 18 = .ok (.iconst 0, 1) := dk_3 (dk_at dksX0_release_0 18 rfl rfl)
theorem dX0_release_19 : decode cX0_release 19 = .ok (.ireturn, 1) := dk_172 (dk_at dksX0_release_0 19 rfl rfl)
abbrev cX0_holds : ByteArray := method_20_code
def yX0_holds : MethodName := ⟨RX0, "holds", "(LHoldtag;I[J)I"⟩
def dkwX0_holds_0 : List UInt8 := [44, 3, 42, 27, 182, 0, 71, 133, 80, 167, 0, 6, 78, 4, 172, 3, 172]
abbrev dktX0_holds_0 : List UInt8 := dkwX0_holds_0 ++ []
theorem dksX0_holds_0 : cX0_holds.data.toList.drop 0 = dktX0_holds_0 := by decide +kernel
theorem dX0_holds_0 : decode cX0_holds 0 = .ok (.aload_n 2, 1) := dk_44 (dk_at dksX0_holds_0 0 rfl rfl)
theorem dX0_holds_1 : decode cX0_holds 1 = .ok (.iconst 0, 1) := dk_3 (dk_at dksX0_holds_0 1 rfl rfl)
theorem dX0_holds_2 : decode cX0_holds 2 = .ok (.aload_n 0, 1) := dk_42 (dk_at dksX0_holds_0 2 rfl rfl)
theorem dX0_holds_3 : decode cX0_holds 3 = .ok (.iload_n 1, 1) := dk_27 (dk_at dksX0_holds_0 3 rfl rfl)
theorem dX0_holds_4 : decode cX0_holds 4 = .ok (.invokevirtual 71, 3) := dk_182 0 71 (dk_at dksX0_holds_0 4 rfl rfl)
theorem dX0_holds_7 : decode cX0_holds 7 = .ok (.i2l, 1) := dk_133 (dk_at dksX0_holds_0 7 rfl rfl)
theorem dX0_holds_8 : decode cX0_holds 8 = .ok (.lastore, 1) := dk_80 (dk_at dksX0_holds_0 8 rfl rfl)
theorem dX0_holds_9 : decode cX0_holds 9 = .ok (.goto 6, 3) := dk_167 0 6 (dk_at dksX0_holds_0 9 rfl rfl)
theorem dX0_holds_12 : decode cX0_holds 12 = .ok (.astore_n 3, 1) := dk_78 (dk_at dksX0_holds_0 12 rfl rfl)
theorem dX0_holds_13 : decode cX0_holds 13 = .ok (.iconst 1, 1) := dk_4 (dk_at dksX0_holds_0 13 rfl rfl)
theorem dX0_holds_14 : decode cX0_holds 14 = .ok (.ireturn, 1) := dk_172 (dk_at dksX0_holds_0 14 rfl rfl)
theorem dX0_holds_15 : decode cX0_holds 15 = .ok (.iconst 0, 1) := dk_3 (dk_at dksX0_holds_0 15 rfl rfl)
theorem dX0_holds_16 : decode cX0_holds 16 = .ok (.ireturn, 1) := dk_172 (dk_at dksX0_holds_0 16 rfl rfl)
abbrev cX0_state : ByteArray := method_21_code
def yX0_state : MethodName := ⟨RX0, "state", "(LHoldtag;I[J)I"⟩
def dkwX0_state_0 : List UInt8 := [44, 3, 42, 27, 182, 0, 74, 133, 80, 167, 0, 6, 78, 4, 172, 3, 172]
abbrev dktX0_state_0 : List UInt8 := dkwX0_state_0 ++ []
theorem dksX0_state_0 : cX0_state.data.toList.drop 0 = dktX0_state_0 := by decide +kernel
theorem dX0_state_0 : decode cX0_state 0 = .ok (.aload_n 2, 1) := dk_44 (dk_at dksX0_state_0 0 rfl rfl)
theorem dX0_state_1 : decode cX0_state 1 = .ok (.iconst 0, 1) := dk_3 (dk_at dksX0_state_0 1 rfl rfl)
theorem dX0_state_2 : decode cX0_state 2 = .ok (.aload_n 0, 1) := dk_42 (dk_at dksX0_state_0 2 rfl rfl)
theorem dX0_state_3 : decode cX0_state 3 = .ok (.iload_n 1, 1) := dk_27 (dk_at dksX0_state_0 3 rfl rfl)
theorem dX0_state_4 : decode cX0_state 4 = .ok (.invokevirtual 74, 3) := dk_182 0 74 (dk_at dksX0_state_0 4 rfl rfl)
theorem dX0_state_7 : decode cX0_state 7 = .ok (.i2l, 1) := dk_133 (dk_at dksX0_state_0 7 rfl rfl)
theorem dX0_state_8 : decode cX0_state 8 = .ok (.lastore, 1) := dk_80 (dk_at dksX0_state_0 8 rfl rfl)
theorem dX0_state_9 : decode cX0_state 9 = .ok (.goto 6, 3) := dk_167 0 6 (dk_at dksX0_state_0 9 rfl rfl)
theorem dX0_state_12 : decode cX0_state 12 = .ok (.astore_n 3, 1) := dk_78 (dk_at dksX0_state_0 12 rfl rfl)
theorem dX0_state_13 : decode cX0_state 13 = .ok (.iconst 1, 1) := dk_4 (dk_at dksX0_state_0 13 rfl rfl)
theorem dX0_state_14 : decode cX0_state 14 = .ok (.ireturn, 1) := dk_172 (dk_at dksX0_state_0 14 rfl rfl)
theorem dX0_state_15 : decode cX0_state 15 = .ok (.iconst 0, 1) := dk_3 (dk_at dksX0_state_0 15 rfl rfl)
theorem dX0_state_16 : decode cX0_state 16 = .ok (.ireturn, 1) := dk_172 (dk_at dksX0_state_0 16 rfl rfl)
abbrev cX0_count : ByteArray := method_22_code
def yX0_count : MethodName := ⟨RX0, "count", "(LHoldtag;IZ[J)I"⟩
def dkwX0_count_0 : List UInt8 := [45, 3, 42, 27, 28, 182, 0, 77, 133, 80, 167, 0, 7, 58, 4, 4, 172, 3, 172]
abbrev dktX0_count_0 : List UInt8 := dkwX0_count_0 ++ []
theorem dksX0_count_0 : cX0_count.data.toList.drop 0 = dktX0_count_0 := by decide +kernel
theorem dX0_count_0 : decode cX0_count 0 = .ok (.aload_n 3, 1) := dk_45 (dk_at dksX0_count_0 0 rfl rfl)
theorem dX0_count_1 : decode cX0_count 1 = .ok (.iconst 0, 1) := dk_3 (dk_at dksX0_count_0 1 rfl rfl)
theorem dX0_count_2 : decode cX0_count 2 = .ok (.aload_n 0, 1) := dk_42 (dk_at dksX0_count_0 2 rfl rfl)
theorem dX0_count_3 : decode cX0_count 3 = .ok (.iload_n 1, 1) := dk_27 (dk_at dksX0_count_0 3 rfl rfl)
theorem dX0_count_4 : decode cX0_count 4 = .ok (.iload_n 2, 1) := dk_28 (dk_at dksX0_count_0 4 rfl rfl)
theorem dX0_count_5 : decode cX0_count 5 = .ok (.invokevirtual 77, 3) := dk_182 0 77 (dk_at dksX0_count_0 5 rfl rfl)
theorem dX0_count_8 : decode cX0_count 8 = .ok (.i2l, 1) := dk_133 (dk_at dksX0_count_0 8 rfl rfl)
theorem dX0_count_9 : decode cX0_count 9 = .ok (.lastore, 1) := dk_80 (dk_at dksX0_count_0 9 rfl rfl)
theorem dX0_count_10 : decode cX0_count 10 = .ok (.goto 7, 3) := dk_167 0 7 (dk_at dksX0_count_0 10 rfl rfl)
theorem dX0_count_13 : decode cX0_count 13 = .ok (.astore 4, 2) := dk_58 4 (dk_at dksX0_count_0 13 rfl rfl)
theorem dX0_count_15 : decode cX0_count 15 = .ok (.iconst 1, 1) := dk_4 (dk_at dksX0_count_0 15 rfl rfl)
theorem dX0_count_16 : decode cX0_count 16 = .ok (.ireturn, 1) := dk_172 (dk_at dksX0_count_0 16 rfl rfl)
theorem dX0_count_17 : decode cX0_count 17 = .ok (.iconst 0, 1) := dk_3 (dk_at dksX0_count_0 17 rfl rfl)
theorem dX0_count_18 : decode cX0_count 18 = .ok (.ireturn, 1) := dk_172 (dk_at dksX0_count_0 18 rfl rfl)
abbrev cX0_tagOf : ByteArray := method_23_code
def yX0_tagOf : MethodName := ⟨RX0, "tagOf", "(LHoldtag;I[J)I"⟩
def dkwX0_tagOf_0 : List UInt8 := [44, 3, 42, 27, 182, 0, 81, 133, 80, 167, 0, 6, 78, 4, 172, 3, 172]
abbrev dktX0_tagOf_0 : List UInt8 := dkwX0_tagOf_0 ++ []
theorem dksX0_tagOf_0 : cX0_tagOf.data.toList.drop 0 = dktX0_tagOf_0 := by decide +kernel
theorem dX0_tagOf_0 : decode cX0_tagOf 0 = .ok (.aload_n 2, 1) := dk_44 (dk_at dksX0_tagOf_0 0 rfl rfl)
theorem dX0_tagOf_1 : decode cX0_tagOf 1 = .ok (.iconst 0, 1) := dk_3 (dk_at dksX0_tagOf_0 1 rfl rfl)
theorem dX0_tagOf_2 : decode cX0_tagOf 2 = .ok (.aload_n 0, 1) := dk_42 (dk_at dksX0_tagOf_0 2 rfl rfl)
theorem dX0_tagOf_3 : decode cX0_tagOf 3 = .ok (.iload_n 1, 1) := dk_27 (dk_at dksX0_tagOf_0 3 rfl rfl)
theorem dX0_tagOf_4 : decode cX0_tagOf 4 = .ok (.invokevirtual 81, 3) := dk_182 0 81 (dk_at dksX0_tagOf_0 4 rfl rfl)
theorem dX0_tagOf_7 : decode cX0_tagOf 7 = .ok (.i2l, 1) := dk_133 (dk_at dksX0_tagOf_0 7 rfl rfl)
theorem dX0_tagOf_8 : decode cX0_tagOf 8 = .ok (.lastore, 1) := dk_80 (dk_at dksX0_tagOf_0 8 rfl rfl)
theorem dX0_tagOf_9 : decode cX0_tagOf 9 = .ok (.goto 6, 3) := dk_167 0 6 (dk_at dksX0_tagOf_0 9 rfl rfl)
theorem dX0_tagOf_12 : decode cX0_tagOf 12 = .ok (.astore_n 3, 1) := dk_78 (dk_at dksX0_tagOf_0 12 rfl rfl)
theorem dX0_tagOf_13 : decode cX0_tagOf 13 = .ok (.iconst 1, 1) := dk_4 (dk_at dksX0_tagOf_0 13 rfl rfl)
theorem dX0_tagOf_14 : decode cX0_tagOf 14 = .ok (.ireturn, 1) := dk_172 (dk_at dksX0_tagOf_0 14 rfl rfl)
theorem dX0_tagOf_15 : decode cX0_tagOf 15 = .ok (.iconst 0, 1) := dk_3 (dk_at dksX0_tagOf_0 15 rfl rfl)
theorem dX0_tagOf_16 : decode cX0_tagOf 16 = .ok (.ireturn, 1) := dk_172 (dk_at dksX0_tagOf_0 16 rfl rfl)
abbrev cX0_ruleOf : ByteArray := method_24_code
def yX0_ruleOf : MethodName := ⟨RX0, "ruleOf", "(LHoldtag;I[J)I"⟩
def dkwX0_ruleOf_0 : List UInt8 := [44, 3, 42, 27, 182, 0, 84, 133, 80, 167, 0, 6, 78, 4, 172, 3, 172]
abbrev dktX0_ruleOf_0 : List UInt8 := dkwX0_ruleOf_0 ++ []
theorem dksX0_ruleOf_0 : cX0_ruleOf.data.toList.drop 0 = dktX0_ruleOf_0 := by decide +kernel
theorem dX0_ruleOf_0 : decode cX0_ruleOf 0 = .ok (.aload_n 2, 1) := dk_44 (dk_at dksX0_ruleOf_0 0 rfl rfl)
theorem dX0_ruleOf_1 : decode cX0_ruleOf 1 = .ok (.iconst 0, 1) := dk_3 (dk_at dksX0_ruleOf_0 1 rfl rfl)
theorem dX0_ruleOf_2 : decode cX0_ruleOf 2 = .ok (.aload_n 0, 1) := dk_42 (dk_at dksX0_ruleOf_0 2 rfl rfl)
theorem dX0_ruleOf_3 : decode cX0_ruleOf 3 = .ok (.iload_n 1, 1) := dk_27 (dk_at dksX0_ruleOf_0 3 rfl rfl)
theorem dX0_ruleOf_4 : decode cX0_ruleOf 4 = .ok (.invokevirtual 84, 3) := dk_182 0 84 (dk_at dksX0_ruleOf_0 4 rfl rfl)
theorem dX0_ruleOf_7 : decode cX0_ruleOf 7 = .ok (.i2l, 1) := dk_133 (dk_at dksX0_ruleOf_0 7 rfl rfl)
theorem dX0_ruleOf_8 : decode cX0_ruleOf 8 = .ok (.lastore, 1) := dk_80 (dk_at dksX0_ruleOf_0 8 rfl rfl)
theorem dX0_ruleOf_9 : decode cX0_ruleOf 9 = .ok (.goto 6, 3) := dk_167 0 6 (dk_at dksX0_ruleOf_0 9 rfl rfl)
theorem dX0_ruleOf_12 : decode cX0_ruleOf 12 = .ok (.astore_n 3, 1) := dk_78 (dk_at dksX0_ruleOf_0 12 rfl rfl)
theorem dX0_ruleOf_13 : decode cX0_ruleOf 13 = .ok (.iconst 1, 1) := dk_4 (dk_at dksX0_ruleOf_0 13 rfl rfl)
theorem dX0_ruleOf_14 : decode cX0_ruleOf 14 = .ok (.ireturn, 1) := dk_172 (dk_at dksX0_ruleOf_0 14 rfl rfl)
theorem dX0_ruleOf_15 : decode cX0_ruleOf 15 = .ok (.iconst 0, 1) := dk_3 (dk_at dksX0_ruleOf_0 15 rfl rfl)
theorem dX0_ruleOf_16 : decode cX0_ruleOf 16 = .ok (.ireturn, 1) := dk_172 (dk_at dksX0_ruleOf_0 16 rfl rfl)
abbrev cX0_due : ByteArray := method_25_code
def yX0_due : MethodName := ⟨RX0, "due", "(LHoldtag;I[J)I"⟩
def dkwX0_due_0 : List UInt8 := [44, 3, 42, 27, 182, 0, 87, 133, 80, 167, 0, 6, 78, 4, 172, 3, 172]
abbrev dktX0_due_0 : List UInt8 := dkwX0_due_0 ++ []
theorem dksX0_due_0 : cX0_due.data.toList.drop 0 = dktX0_due_0 := by decide +kernel
theorem dX0_due_0 : decode cX0_due 0 = .ok (.aload_n 2, 1) := dk_44 (dk_at dksX0_due_0 0 rfl rfl)
theorem dX0_due_1 : decode cX0_due 1 = .ok (.iconst 0, 1) := dk_3 (dk_at dksX0_due_0 1 rfl rfl)
theorem dX0_due_2 : decode cX0_due 2 = .ok (.aload_n 0, 1) := dk_42 (dk_at dksX0_due_0 2 rfl rfl)
theorem dX0_due_3 : decode cX0_due 3 = .ok (.iload_n 1, 1) := dk_27 (dk_at dksX0_due_0 3 rfl rfl)
theorem dX0_due_4 : decode cX0_due 4 = .ok (.invokevirtual 87, 3) := dk_182 0 87 (dk_at dksX0_due_0 4 rfl rfl)
theorem dX0_due_7 : decode cX0_due 7 = .ok (.i2l, 1) := dk_133 (dk_at dksX0_due_0 7 rfl rfl)
theorem dX0_due_8 : decode cX0_due 8 = .ok (.lastore, 1) := dk_80 (dk_at dksX0_due_0 8 rfl rfl)
theorem dX0_due_9 : decode cX0_due 9 = .ok (.goto 6, 3) := dk_167 0 6 (dk_at dksX0_due_0 9 rfl rfl)
theorem dX0_due_12 : decode cX0_due 12 = .ok (.astore_n 3, 1) := dk_78 (dk_at dksX0_due_0 12 rfl rfl)
theorem dX0_due_13 : decode cX0_due 13 = .ok (.iconst 1, 1) := dk_4 (dk_at dksX0_due_0 13 rfl rfl)
theorem dX0_due_14 : decode cX0_due 14 = .ok (.ireturn, 1) := dk_172 (dk_at dksX0_due_0 14 rfl rfl)
theorem dX0_due_15 : decode cX0_due 15 = .ok (.iconst 0, 1) := dk_3 (dk_at dksX0_due_0 15 rfl rfl)
theorem dX0_due_16 : decode cX0_due 16 = .ok (.ireturn, 1) := dk_172 (dk_at dksX0_due_0 16 rfl rfl)
abbrev cX0_end : ByteArray := method_26_code
def yX0_end : MethodName := ⟨RX0, "end", "(LHoldtag;I[J)I"⟩
def dkwX0_end_0 : List UInt8 := [44, 3, 42, 27, 182, 0, 90, 133, 80, 167, 0, 6, 78, 4, 172, 3, 172]
abbrev dktX0_end_0 : List UInt8 := dkwX0_end_0 ++ []
theorem dksX0_end_0 : cX0_end.data.toList.drop 0 = dktX0_end_0 := by decide +kernel
theorem dX0_end_0 : decode cX0_end 0 = .ok (.aload_n 2, 1) := dk_44 (dk_at dksX0_end_0 0 rfl rfl)
theorem dX0_end_1 : decode cX0_end 1 = .ok (.iconst 0, 1) := dk_3 (dk_at dksX0_end_0 1 rfl rfl)
theorem dX0_end_2 : decode cX0_end 2 = .ok (.aload_n 0, 1) := dk_42 (dk_at dksX0_end_0 2 rfl rfl)
theorem dX0_end_3 : decode cX0_end 3 = .ok (.iload_n 1, 1) := dk_27 (dk_at dksX0_end_0 3 rfl rfl)
theorem dX0_end_4 : decode cX0_end 4 = .ok (.invokevirtual 90, 3) := dk_182 0 90 (dk_at dksX0_end_0 4 rfl rfl)
theorem dX0_end_7 : decode cX0_end 7 = .ok (.i2l, 1) := dk_133 (dk_at dksX0_end_0 7 rfl rfl)
theorem dX0_end_8 : decode cX0_end 8 = .ok (.lastore, 1) := dk_80 (dk_at dksX0_end_0 8 rfl rfl)
theorem dX0_end_9 : decode cX0_end 9 = .ok (.goto 6, 3) := dk_167 0 6 (dk_at dksX0_end_0 9 rfl rfl)
theorem dX0_end_12 : decode cX0_end 12 = .ok (.astore_n 3, 1) := dk_78 (dk_at dksX0_end_0 12 rfl rfl)
theorem dX0_end_13 : decode cX0_end 13 = .ok (.iconst 1, 1) := dk_4 (dk_at dksX0_end_0 13 rfl rfl)
theorem dX0_end_14 : decode cX0_end 14 = .ok (.ireturn, 1) := dk_172 (dk_at dksX0_end_0 14 rfl rfl)
theorem dX0_end_15 : decode cX0_end 15 = .ok (.iconst 0, 1) := dk_3 (dk_at dksX0_end_0 15 rfl rfl)
theorem dX0_end_16 : decode cX0_end 16 = .ok (.ireturn, 1) := dk_172 (dk_at dksX0_end_0 16 rfl rfl)
abbrev cX0_firstOut : ByteArray := method_27_code
def yX0_firstOut : MethodName := ⟨RX0, "firstOut", "(LHoldtag;[J)I"⟩
def dkwX0_firstOut_0 : List UInt8 := [43, 3, 42, 182, 0, 93, 133, 80, 167, 0, 6, 77, 4, 172, 3, 172]
abbrev dktX0_firstOut_0 : List UInt8 := dkwX0_firstOut_0 ++ []
theorem dksX0_firstOut_0 : cX0_firstOut.data.toList.drop 0 = dktX0_firstOut_0 := by decide +kernel
theorem dX0_firstOut_0 : decode cX0_firstOut 0 = .ok (.aload_n 1, 1) := dk_43 (dk_at dksX0_firstOut_0 0 rfl rfl)
theorem dX0_firstOut_1 : decode cX0_firstOut 1 = .ok (.iconst 0, 1) := dk_3 (dk_at dksX0_firstOut_0 1 rfl rfl)
theorem dX0_firstOut_2 : decode cX0_firstOut 2 = .ok (.aload_n 0, 1) := dk_42 (dk_at dksX0_firstOut_0 2 rfl rfl)
theorem dX0_firstOut_3 : decode cX0_firstOut 3 = .ok (.invokevirtual 93, 3) := dk_182 0 93 (dk_at dksX0_firstOut_0 3 rfl rfl)
theorem dX0_firstOut_6 : decode cX0_firstOut 6 = .ok (.i2l, 1) := dk_133 (dk_at dksX0_firstOut_0 6 rfl rfl)
theorem dX0_firstOut_7 : decode cX0_firstOut 7 = .ok (.lastore, 1) := dk_80 (dk_at dksX0_firstOut_0 7 rfl rfl)
theorem dX0_firstOut_8 : decode cX0_firstOut 8 = .ok (.goto 6, 3) := dk_167 0 6 (dk_at dksX0_firstOut_0 8 rfl rfl)
theorem dX0_firstOut_11 : decode cX0_firstOut 11 = .ok (.astore_n 2, 1) := dk_77 (dk_at dksX0_firstOut_0 11 rfl rfl)
theorem dX0_firstOut_12 : decode cX0_firstOut 12 = .ok (.iconst 1, 1) := dk_4 (dk_at dksX0_firstOut_0 12 rfl rfl)
theorem dX0_firstOut_13 : decode cX0_firstOut 13 = .ok (.ireturn, 1) := dk_172 (dk_at dksX0_firstOut_0 13 rfl rfl)
theorem dX0_firstOut_14 : decode cX0_firstOut 14 = .ok (.iconst 0, 1) := dk_3 (dk_at dksX0_firstOut_0 14 rfl rfl)
theorem dX0_firstOut_15 : decode cX0_firstOut 15 = .ok (.ireturn, 1) := dk_172 (dk_at dksX0_firstOut_0 15 rfl rfl)
abbrev cX0_write : ByteArray := method_28_code
def yX0_write : MethodName := ⟨RX0, "write", "(LHoldtag;I[J)I"⟩
def dkwX0_write_0 : List UInt8 := [44, 3, 42, 27, 182, 0, 99, 133, 80, 167, 0, 6, 78, 4, 172, 3, 172]
abbrev dktX0_write_0 : List UInt8 := dkwX0_write_0 ++ []
theorem dksX0_write_0 : cX0_write.data.toList.drop 0 = dktX0_write_0 := by decide +kernel
theorem dX0_write_0 : decode cX0_write 0 = .ok (.aload_n 2, 1) := dk_44 (dk_at dksX0_write_0 0 rfl rfl)
theorem dX0_write_1 : decode cX0_write 1 = .ok (.iconst 0, 1) := dk_3 (dk_at dksX0_write_0 1 rfl rfl)
theorem dX0_write_2 : decode cX0_write 2 = .ok (.aload_n 0, 1) := dk_42 (dk_at dksX0_write_0 2 rfl rfl)
theorem dX0_write_3 : decode cX0_write 3 = .ok (.iload_n 1, 1) := dk_27 (dk_at dksX0_write_0 3 rfl rfl)
theorem dX0_write_4 : decode cX0_write 4 = .ok (.invokevirtual 99, 3) := dk_182 0 99 (dk_at dksX0_write_0 4 rfl rfl)
theorem dX0_write_7 : decode cX0_write 7 = .ok (.i2l, 1) := dk_133 (dk_at dksX0_write_0 7 rfl rfl)
theorem dX0_write_8 : decode cX0_write 8 = .ok (.lastore, 1) := dk_80 (dk_at dksX0_write_0 8 rfl rfl)
theorem dX0_write_9 : decode cX0_write 9 = .ok (.goto 6, 3) := dk_167 0 6 (dk_at dksX0_write_0 9 rfl rfl)
theorem dX0_write_12 : decode cX0_write 12 = .ok (.astore_n 3, 1) := dk_78 (dk_at dksX0_write_0 12 rfl rfl)
theorem dX0_write_13 : decode cX0_write 13 = .ok (.iconst 1, 1) := dk_4 (dk_at dksX0_write_0 13 rfl rfl)
theorem dX0_write_14 : decode cX0_write 14 = .ok (.ireturn, 1) := dk_172 (dk_at dksX0_write_0 14 rfl rfl)
theorem dX0_write_15 : decode cX0_write 15 = .ok (.iconst 0, 1) := dk_3 (dk_at dksX0_write_0 15 rfl rfl)
theorem dX0_write_16 : decode cX0_write 16 = .ok (.ireturn, 1) := dk_172 (dk_at dksX0_write_0 16 rfl rfl)
theorem q53 : (Jvm.Cond.initialized "HoldtagLaw") ∈ lw_all := lw_g (lw_at lw_m1 0 rfl) rfl
theorem q99 : (Jvm.Cond.classLink "HoldtagLaw" (8 : Nat) "Holdtag") ∈ lw_all := lw_g (lw_at lw_m1 46 rfl) rfl
theorem q101 : (Jvm.Cond.methodLink "HoldtagLaw" (102 : Nat) ({ cls := "Holdtag", name := "<init>", desc := "()V" } : Jvm.MethodName)) ∈ lw_all := lw_g (lw_at lw_m1 48 rfl) rfl
theorem q343 : (Jvm.Cond.methodLink "HoldtagLaw" (106 : Nat) ({ cls := "Holdtag", name := "clear", desc := "()I" } : Jvm.MethodName)) ∈ lw_all := lw_g (lw_at lw_m2 50 rfl) rfl
theorem q360 : (Jvm.Cond.methodLink "HoldtagLaw" (173 : Nat) ({ cls := "Holdtag", name := "today", desc := "()I" } : Jvm.MethodName)) ∈ lw_all := lw_g (lw_at lw_m2 67 rfl) rfl
theorem q364 : (Jvm.Cond.methodLink "HoldtagLaw" (203 : Nat) ({ cls := "Holdtag", name := "outputAt", desc := "(I)I" } : Jvm.MethodName)) ∈ lw_all := lw_g (lw_at lw_m2 71 rfl) rfl
theorem q403 : (Jvm.Cond.methodLink "HoldtagLaw" (207 : Nat) ({ cls := "Holdtag", name := "meanAge", desc := "()D" } : Jvm.MethodName)) ∈ lw_all := lw_g (lw_at lw_m2 110 rfl) rfl
theorem q578 : (Jvm.Cond.methodLink "HoldtagLaw" (212 : Nat) ({ cls := "Holdtag", name := "heldShare", desc := "()F" } : Jvm.MethodName)) ∈ lw_all := lw_g (lw_at lw_m3 45 rfl) rfl
theorem q596 : (Jvm.Cond.methodLink "HoldtagLaw" (217 : Nat) ({ cls := "Holdtag", name := "errors", desc := "()I" } : Jvm.MethodName)) ∈ lw_all := lw_g (lw_at lw_m3 63 rfl) rfl
theorem q1227 : (Jvm.Cond.methodLink "HoldtagLaw" (110 : Nat) ({ cls := "HoldtagLaw", name := "folder", desc := "(LHoldtag;I[J)I" } : Jvm.MethodName)) ∈ lw_all := lw_g (lw_at lw_m5 214 rfl) rfl
theorem q1228 : (Jvm.Cond.static ({ cls := "HoldtagLaw", name := "folder", desc := "(LHoldtag;I[J)I" } : Jvm.MethodName)) ∈ lw_all := lw_g (lw_at lw_m5 215 rfl) rfl
theorem q1229 : (Jvm.Cond.codeWith ({ cls := "HoldtagLaw", name := "folder", desc := "(LHoldtag;I[J)I" } : Jvm.MethodName) method_3_code (4 : Nat) (Option.some Jvm.ClassFile.FieldType.int) [((0 : Nat), (9 : Nat), (12 : Nat), (13 : Nat)), ((0 : Nat), (9 : Nat), (15 : Nat), (15 : Nat))]) ∈ lw_all := lw_g (lw_at lw_m5 216 rfl) rfl
theorem q1230 : (Jvm.Cond.classLink "HoldtagLaw" (13 : Nat) "java/lang/IndexOutOfBoundsException") ∈ lw_all := lw_g (lw_at lw_m5 217 rfl) rfl
theorem q1249 : (Jvm.Cond.classLink "HoldtagLaw" (15 : Nat) "java/lang/IllegalStateException") ∈ lw_all := lw_g (lw_at lw_m5 236 rfl) rfl
theorem q1250 : (Jvm.Cond.methodLink "HoldtagLaw" (7 : Nat) ({ cls := "Holdtag", name := "folder", desc := "(I)I" } : Jvm.MethodName)) ∈ lw_all := lw_g (lw_at lw_m5 237 rfl) rfl
theorem q1307 : (Jvm.Cond.methodLink "HoldtagLaw" (119 : Nat) ({ cls := "HoldtagLaw", name := "tag", desc := "(LHoldtag;III[J)I" } : Jvm.MethodName)) ∈ lw_all := lw_g (lw_at lw_m6 54 rfl) rfl
theorem q1308 : (Jvm.Cond.static ({ cls := "HoldtagLaw", name := "tag", desc := "(LHoldtag;III[J)I" } : Jvm.MethodName)) ∈ lw_all := lw_g (lw_at lw_m6 55 rfl) rfl
theorem q1309 : (Jvm.Cond.codeWith ({ cls := "HoldtagLaw", name := "tag", desc := "(LHoldtag;III[J)I" } : Jvm.MethodName) method_4_code (6 : Nat) (Option.some Jvm.ClassFile.FieldType.int) [((0 : Nat), (12 : Nat), (15 : Nat), (21 : Nat)), ((0 : Nat), (12 : Nat), (19 : Nat), (15 : Nat))]) ∈ lw_all := lw_g (lw_at lw_m6 56 rfl) rfl
theorem q1310 : (Jvm.Cond.classLink "HoldtagLaw" (21 : Nat) "java/lang/IllegalArgumentException") ∈ lw_all := lw_g (lw_at lw_m6 57 rfl) rfl
theorem q1311 : (Jvm.Cond.methodLink "HoldtagLaw" (17 : Nat) ({ cls := "Holdtag", name := "tag", desc := "(III)I" } : Jvm.MethodName)) ∈ lw_all := lw_g (lw_at lw_m6 58 rfl) rfl
theorem q1345 : (Jvm.Cond.methodLink "HoldtagLaw" (123 : Nat) ({ cls := "HoldtagLaw", name := "tagFolder", desc := "(LHoldtag;II[J)I" } : Jvm.MethodName)) ∈ lw_all := lw_g (lw_at lw_m6 92 rfl) rfl
theorem q1346 : (Jvm.Cond.static ({ cls := "HoldtagLaw", name := "tagFolder", desc := "(LHoldtag;II[J)I" } : Jvm.MethodName)) ∈ lw_all := lw_g (lw_at lw_m6 93 rfl) rfl
theorem q1347 : (Jvm.Cond.codeWith ({ cls := "HoldtagLaw", name := "tagFolder", desc := "(LHoldtag;II[J)I" } : Jvm.MethodName) method_5_code (5 : Nat) (Option.some Jvm.ClassFile.FieldType.int) [((0 : Nat), (10 : Nat), (13 : Nat), (13 : Nat))]) ∈ lw_all := lw_g (lw_at lw_m6 94 rfl) rfl
theorem q1348 : (Jvm.Cond.methodLink "HoldtagLaw" (23 : Nat) ({ cls := "Holdtag", name := "tagFolder", desc := "(II)I" } : Jvm.MethodName)) ∈ lw_all := lw_g (lw_at lw_m6 95 rfl) rfl
theorem q1362 : (Jvm.Cond.methodLink "HoldtagLaw" (127 : Nat) ({ cls := "HoldtagLaw", name := "tagItem", desc := "(LHoldtag;II[J)I" } : Jvm.MethodName)) ∈ lw_all := lw_g (lw_at lw_m6 109 rfl) rfl
theorem q1363 : (Jvm.Cond.static ({ cls := "HoldtagLaw", name := "tagItem", desc := "(LHoldtag;II[J)I" } : Jvm.MethodName)) ∈ lw_all := lw_g (lw_at lw_m6 110 rfl) rfl
theorem q1364 : (Jvm.Cond.codeWith ({ cls := "HoldtagLaw", name := "tagItem", desc := "(LHoldtag;II[J)I" } : Jvm.MethodName) method_6_code (5 : Nat) (Option.some Jvm.ClassFile.FieldType.int) [((0 : Nat), (10 : Nat), (13 : Nat), (13 : Nat)), ((0 : Nat), (10 : Nat), (17 : Nat), (15 : Nat))]) ∈ lw_all := lw_g (lw_at lw_m6 111 rfl) rfl
theorem q1365 : (Jvm.Cond.methodLink "HoldtagLaw" (27 : Nat) ({ cls := "Holdtag", name := "tagItem", desc := "(II)I" } : Jvm.MethodName)) ∈ lw_all := lw_g (lw_at lw_m6 112 rfl) rfl
theorem q1374 : (Jvm.Cond.methodLink "HoldtagLaw" (130 : Nat) ({ cls := "HoldtagLaw", name := "byDefault", desc := "(LHoldtag;I[J)I" } : Jvm.MethodName)) ∈ lw_all := lw_g (lw_at lw_m6 121 rfl) rfl
theorem q1375 : (Jvm.Cond.static ({ cls := "HoldtagLaw", name := "byDefault", desc := "(LHoldtag;I[J)I" } : Jvm.MethodName)) ∈ lw_all := lw_g (lw_at lw_m6 122 rfl) rfl
theorem q1376 : (Jvm.Cond.codeWith ({ cls := "HoldtagLaw", name := "byDefault", desc := "(LHoldtag;I[J)I" } : Jvm.MethodName) method_7_code (4 : Nat) (Option.some Jvm.ClassFile.FieldType.int) [((0 : Nat), (9 : Nat), (12 : Nat), (13 : Nat))]) ∈ lw_all := lw_g (lw_at lw_m6 123 rfl) rfl
theorem q1377 : (Jvm.Cond.methodLink "HoldtagLaw" (30 : Nat) ({ cls := "Holdtag", name := "byDefault", desc := "(I)I" } : Jvm.MethodName)) ∈ lw_all := lw_g (lw_at lw_m6 124 rfl) rfl
theorem q1381 : (Jvm.Cond.methodLink "HoldtagLaw" (133 : Nat) ({ cls := "HoldtagLaw", name := "item", desc := "(LHoldtag;IIII[J)I" } : Jvm.MethodName)) ∈ lw_all := lw_g (lw_at lw_m6 128 rfl) rfl
theorem q1382 : (Jvm.Cond.static ({ cls := "HoldtagLaw", name := "item", desc := "(LHoldtag;IIII[J)I" } : Jvm.MethodName)) ∈ lw_all := lw_g (lw_at lw_m6 129 rfl) rfl
theorem q1383 : (Jvm.Cond.codeWith ({ cls := "HoldtagLaw", name := "item", desc := "(LHoldtag;IIII[J)I" } : Jvm.MethodName) method_8_code (7 : Nat) (Option.some Jvm.ClassFile.FieldType.int) [((0 : Nat), (14 : Nat), (17 : Nat), (13 : Nat)), ((0 : Nat), (14 : Nat), (21 : Nat), (21 : Nat)), ((0 : Nat), (14 : Nat), (25 : Nat), (15 : Nat))]) ∈ lw_all := lw_g (lw_at lw_m6 130 rfl) rfl
theorem q1384 : (Jvm.Cond.methodLink "HoldtagLaw" (33 : Nat) ({ cls := "Holdtag", name := "item", desc := "(IIII)I" } : Jvm.MethodName)) ∈ lw_all := lw_g (lw_at lw_m6 131 rfl) rfl
theorem q1389 : (Jvm.Cond.methodLink "HoldtagLaw" (137 : Nat) ({ cls := "HoldtagLaw", name := "meeting", desc := "(LHoldtag;II[J)I" } : Jvm.MethodName)) ∈ lw_all := lw_g (lw_at lw_m6 136 rfl) rfl
theorem q1390 : (Jvm.Cond.static ({ cls := "HoldtagLaw", name := "meeting", desc := "(LHoldtag;II[J)I" } : Jvm.MethodName)) ∈ lw_all := lw_g (lw_at lw_m6 137 rfl) rfl
theorem q1391 : (Jvm.Cond.codeWith ({ cls := "HoldtagLaw", name := "meeting", desc := "(LHoldtag;II[J)I" } : Jvm.MethodName) method_9_code (5 : Nat) (Option.some Jvm.ClassFile.FieldType.int) [((0 : Nat), (10 : Nat), (13 : Nat), (13 : Nat)), ((0 : Nat), (10 : Nat), (17 : Nat), (21 : Nat)), ((0 : Nat), (10 : Nat), (21 : Nat), (15 : Nat))]) ∈ lw_all := lw_g (lw_at lw_m6 138 rfl) rfl
theorem q1392 : (Jvm.Cond.methodLink "HoldtagLaw" (37 : Nat) ({ cls := "Holdtag", name := "meeting", desc := "(II)I" } : Jvm.MethodName)) ∈ lw_all := lw_g (lw_at lw_m6 139 rfl) rfl
theorem q1397 : (Jvm.Cond.methodLink "HoldtagLaw" (140 : Nat) ({ cls := "HoldtagLaw", name := "event", desc := "(LHoldtag;II[J)I" } : Jvm.MethodName)) ∈ lw_all := lw_g (lw_at lw_m6 144 rfl) rfl
theorem q1398 : (Jvm.Cond.static ({ cls := "HoldtagLaw", name := "event", desc := "(LHoldtag;II[J)I" } : Jvm.MethodName)) ∈ lw_all := lw_g (lw_at lw_m6 145 rfl) rfl
theorem q1399 : (Jvm.Cond.codeWith ({ cls := "HoldtagLaw", name := "event", desc := "(LHoldtag;II[J)I" } : Jvm.MethodName) method_10_code (5 : Nat) (Option.some Jvm.ClassFile.FieldType.int) [((0 : Nat), (10 : Nat), (13 : Nat), (21 : Nat))]) ∈ lw_all := lw_g (lw_at lw_m6 146 rfl) rfl
theorem q1400 : (Jvm.Cond.methodLink "HoldtagLaw" (40 : Nat) ({ cls := "Holdtag", name := "event", desc := "(II)I" } : Jvm.MethodName)) ∈ lw_all := lw_g (lw_at lw_m6 147 rfl) rfl
theorem q1505 : (Jvm.Cond.methodLink "HoldtagLaw" (143 : Nat) ({ cls := "HoldtagLaw", name := "move", desc := "(LHoldtag;II[J)I" } : Jvm.MethodName)) ∈ lw_all := lw_g (lw_at lw_m7 12 rfl) rfl
theorem q1506 : (Jvm.Cond.static ({ cls := "HoldtagLaw", name := "move", desc := "(LHoldtag;II[J)I" } : Jvm.MethodName)) ∈ lw_all := lw_g (lw_at lw_m7 13 rfl) rfl
theorem q1507 : (Jvm.Cond.codeWith ({ cls := "HoldtagLaw", name := "move", desc := "(LHoldtag;II[J)I" } : Jvm.MethodName) method_11_code (5 : Nat) (Option.some Jvm.ClassFile.FieldType.int) [((0 : Nat), (10 : Nat), (13 : Nat), (13 : Nat)), ((0 : Nat), (10 : Nat), (17 : Nat), (15 : Nat))]) ∈ lw_all := lw_g (lw_at lw_m7 14 rfl) rfl
theorem q1508 : (Jvm.Cond.methodLink "HoldtagLaw" (43 : Nat) ({ cls := "Holdtag", name := "move", desc := "(II)I" } : Jvm.MethodName)) ∈ lw_all := lw_g (lw_at lw_m7 15 rfl) rfl
theorem q1512 : (Jvm.Cond.methodLink "HoldtagLaw" (146 : Nat) ({ cls := "HoldtagLaw", name := "edit", desc := "(LHoldtag;II[J)I" } : Jvm.MethodName)) ∈ lw_all := lw_g (lw_at lw_m7 19 rfl) rfl
theorem q1513 : (Jvm.Cond.static ({ cls := "HoldtagLaw", name := "edit", desc := "(LHoldtag;II[J)I" } : Jvm.MethodName)) ∈ lw_all := lw_g (lw_at lw_m7 20 rfl) rfl
theorem q1514 : (Jvm.Cond.codeWith ({ cls := "HoldtagLaw", name := "edit", desc := "(LHoldtag;II[J)I" } : Jvm.MethodName) method_12_code (5 : Nat) (Option.some Jvm.ClassFile.FieldType.int) [((0 : Nat), (10 : Nat), (13 : Nat), (13 : Nat)), ((0 : Nat), (10 : Nat), (17 : Nat), (21 : Nat)), ((0 : Nat), (10 : Nat), (21 : Nat), (15 : Nat))]) ∈ lw_all := lw_g (lw_at lw_m7 21 rfl) rfl
theorem q1515 : (Jvm.Cond.methodLink "HoldtagLaw" (46 : Nat) ({ cls := "Holdtag", name := "edit", desc := "(II)I" } : Jvm.MethodName)) ∈ lw_all := lw_g (lw_at lw_m7 22 rfl) rfl
theorem q1637 : (Jvm.Cond.methodLink "HoldtagLaw" (149 : Nat) ({ cls := "HoldtagLaw", name := "delete", desc := "(LHoldtag;I[J)I" } : Jvm.MethodName)) ∈ lw_all := lw_g (lw_at lw_m7 144 rfl) rfl
theorem q1638 : (Jvm.Cond.static ({ cls := "HoldtagLaw", name := "delete", desc := "(LHoldtag;I[J)I" } : Jvm.MethodName)) ∈ lw_all := lw_g (lw_at lw_m7 145 rfl) rfl
theorem q1639 : (Jvm.Cond.codeWith ({ cls := "HoldtagLaw", name := "delete", desc := "(LHoldtag;I[J)I" } : Jvm.MethodName) method_13_code (4 : Nat) (Option.some Jvm.ClassFile.FieldType.int) [((0 : Nat), (9 : Nat), (12 : Nat), (13 : Nat)), ((0 : Nat), (9 : Nat), (15 : Nat), (15 : Nat))]) ∈ lw_all := lw_g (lw_at lw_m7 146 rfl) rfl
theorem q1640 : (Jvm.Cond.methodLink "HoldtagLaw" (49 : Nat) ({ cls := "Holdtag", name := "delete", desc := "(I)I" } : Jvm.MethodName)) ∈ lw_all := lw_g (lw_at lw_m7 147 rfl) rfl
theorem q1644 : (Jvm.Cond.methodLink "HoldtagLaw" (152 : Nat) ({ cls := "HoldtagLaw", name := "purge", desc := "(LHoldtag;I[J)I" } : Jvm.MethodName)) ∈ lw_all := lw_g (lw_at lw_m7 151 rfl) rfl
theorem q1645 : (Jvm.Cond.static ({ cls := "HoldtagLaw", name := "purge", desc := "(LHoldtag;I[J)I" } : Jvm.MethodName)) ∈ lw_all := lw_g (lw_at lw_m7 152 rfl) rfl
theorem q1646 : (Jvm.Cond.codeWith ({ cls := "HoldtagLaw", name := "purge", desc := "(LHoldtag;I[J)I" } : Jvm.MethodName) method_14_code (4 : Nat) (Option.some Jvm.ClassFile.FieldType.int) [((0 : Nat), (16 : Nat), (19 : Nat), (13 : Nat)), ((0 : Nat), (16 : Nat), (22 : Nat), (15 : Nat))]) ∈ lw_all := lw_g (lw_at lw_m7 153 rfl) rfl
theorem q1647 : (Jvm.Cond.methodLink "HoldtagLaw" (52 : Nat) ({ cls := "Holdtag", name := "purge", desc := "(I)Z" } : Jvm.MethodName)) ∈ lw_all := lw_g (lw_at lw_m7 154 rfl) rfl
theorem q1655 : (Jvm.Cond.methodLink "HoldtagLaw" (155 : Nat) ({ cls := "HoldtagLaw", name := "recover", desc := "(LHoldtag;I[J)I" } : Jvm.MethodName)) ∈ lw_all := lw_g (lw_at lw_m7 162 rfl) rfl
theorem q1656 : (Jvm.Cond.static ({ cls := "HoldtagLaw", name := "recover", desc := "(LHoldtag;I[J)I" } : Jvm.MethodName)) ∈ lw_all := lw_g (lw_at lw_m7 163 rfl) rfl
theorem q1657 : (Jvm.Cond.codeWith ({ cls := "HoldtagLaw", name := "recover", desc := "(LHoldtag;I[J)I" } : Jvm.MethodName) method_15_code (4 : Nat) (Option.some Jvm.ClassFile.FieldType.int) [((0 : Nat), (9 : Nat), (12 : Nat), (13 : Nat)), ((0 : Nat), (9 : Nat), (15 : Nat), (15 : Nat))]) ∈ lw_all := lw_g (lw_at lw_m7 164 rfl) rfl
theorem q1658 : (Jvm.Cond.methodLink "HoldtagLaw" (56 : Nat) ({ cls := "Holdtag", name := "recover", desc := "(I)I" } : Jvm.MethodName)) ∈ lw_all := lw_g (lw_at lw_m7 165 rfl) rfl
theorem q1662 : (Jvm.Cond.methodLink "HoldtagLaw" (158 : Nat) ({ cls := "HoldtagLaw", name := "keep", desc := "(LHoldtag;II[J)I" } : Jvm.MethodName)) ∈ lw_all := lw_g (lw_at lw_m7 169 rfl) rfl
theorem q1663 : (Jvm.Cond.static ({ cls := "HoldtagLaw", name := "keep", desc := "(LHoldtag;II[J)I" } : Jvm.MethodName)) ∈ lw_all := lw_g (lw_at lw_m7 170 rfl) rfl
theorem q1664 : (Jvm.Cond.codeWith ({ cls := "HoldtagLaw", name := "keep", desc := "(LHoldtag;II[J)I" } : Jvm.MethodName) method_16_code (5 : Nat) (Option.some Jvm.ClassFile.FieldType.int) [((0 : Nat), (10 : Nat), (13 : Nat), (21 : Nat))]) ∈ lw_all := lw_g (lw_at lw_m7 171 rfl) rfl
theorem q1665 : (Jvm.Cond.methodLink "HoldtagLaw" (59 : Nat) ({ cls := "Holdtag", name := "keep", desc := "(II)I" } : Jvm.MethodName)) ∈ lw_all := lw_g (lw_at lw_m7 172 rfl) rfl
theorem q1669 : (Jvm.Cond.methodLink "HoldtagLaw" (161 : Nat) ({ cls := "HoldtagLaw", name := "pass", desc := "(LHoldtag;I[J)I" } : Jvm.MethodName)) ∈ lw_all := lw_g (lw_at lw_m7 176 rfl) rfl
theorem q1670 : (Jvm.Cond.static ({ cls := "HoldtagLaw", name := "pass", desc := "(LHoldtag;I[J)I" } : Jvm.MethodName)) ∈ lw_all := lw_g (lw_at lw_m7 177 rfl) rfl
theorem q1671 : (Jvm.Cond.codeWith ({ cls := "HoldtagLaw", name := "pass", desc := "(LHoldtag;I[J)I" } : Jvm.MethodName) method_17_code (4 : Nat) (Option.some Jvm.ClassFile.FieldType.int) [((0 : Nat), (9 : Nat), (12 : Nat), (21 : Nat))]) ∈ lw_all := lw_g (lw_at lw_m7 178 rfl) rfl
theorem q1672 : (Jvm.Cond.methodLink "HoldtagLaw" (62 : Nat) ({ cls := "Holdtag", name := "pass", desc := "(I)I" } : Jvm.MethodName)) ∈ lw_all := lw_g (lw_at lw_m7 179 rfl) rfl
theorem q1680 : (Jvm.Cond.methodLink "HoldtagLaw" (164 : Nat) ({ cls := "HoldtagLaw", name := "hold", desc := "(LHoldtag;IIII[J)I" } : Jvm.MethodName)) ∈ lw_all := lw_g (lw_at lw_m7 187 rfl) rfl
theorem q1681 : (Jvm.Cond.static ({ cls := "HoldtagLaw", name := "hold", desc := "(LHoldtag;IIII[J)I" } : Jvm.MethodName)) ∈ lw_all := lw_g (lw_at lw_m7 188 rfl) rfl
theorem q1682 : (Jvm.Cond.codeWith ({ cls := "HoldtagLaw", name := "hold", desc := "(LHoldtag;IIII[J)I" } : Jvm.MethodName) method_18_code (7 : Nat) (Option.some Jvm.ClassFile.FieldType.int) [((0 : Nat), (14 : Nat), (17 : Nat), (21 : Nat)), ((0 : Nat), (14 : Nat), (21 : Nat), (15 : Nat))]) ∈ lw_all := lw_g (lw_at lw_m7 189 rfl) rfl
theorem q1683 : (Jvm.Cond.methodLink "HoldtagLaw" (65 : Nat) ({ cls := "Holdtag", name := "hold", desc := "(IIII)I" } : Jvm.MethodName)) ∈ lw_all := lw_g (lw_at lw_m7 190 rfl) rfl
theorem q1713 : (Jvm.Cond.methodLink "HoldtagLaw" (167 : Nat) ({ cls := "HoldtagLaw", name := "release", desc := "(LHoldtag;I[J)I" } : Jvm.MethodName)) ∈ lw_all := lw_g (lw_at lw_m7 220 rfl) rfl
theorem q1714 : (Jvm.Cond.static ({ cls := "HoldtagLaw", name := "release", desc := "(LHoldtag;I[J)I" } : Jvm.MethodName)) ∈ lw_all := lw_g (lw_at lw_m7 221 rfl) rfl
theorem q1715 : (Jvm.Cond.codeWith ({ cls := "HoldtagLaw", name := "release", desc := "(LHoldtag;I[J)I" } : Jvm.MethodName) method_19_code (4 : Nat) (Option.some Jvm.ClassFile.FieldType.int) [((0 : Nat), (9 : Nat), (12 : Nat), (13 : Nat)), ((0 : Nat), (9 : Nat), (15 : Nat), (15 : Nat))]) ∈ lw_all := lw_g (lw_at lw_m7 222 rfl) rfl
theorem q1716 : (Jvm.Cond.methodLink "HoldtagLaw" (68 : Nat) ({ cls := "Holdtag", name := "release", desc := "(I)I" } : Jvm.MethodName)) ∈ lw_all := lw_g (lw_at lw_m7 223 rfl) rfl
theorem q1720 : (Jvm.Cond.methodLink "HoldtagLaw" (170 : Nat) ({ cls := "HoldtagLaw", name := "holds", desc := "(LHoldtag;I[J)I" } : Jvm.MethodName)) ∈ lw_all := lw_g (lw_at lw_m7 227 rfl) rfl
theorem q1721 : (Jvm.Cond.static ({ cls := "HoldtagLaw", name := "holds", desc := "(LHoldtag;I[J)I" } : Jvm.MethodName)) ∈ lw_all := lw_g (lw_at lw_m7 228 rfl) rfl
theorem q1722 : (Jvm.Cond.codeWith ({ cls := "HoldtagLaw", name := "holds", desc := "(LHoldtag;I[J)I" } : Jvm.MethodName) method_20_code (4 : Nat) (Option.some Jvm.ClassFile.FieldType.int) [((0 : Nat), (9 : Nat), (12 : Nat), (13 : Nat))]) ∈ lw_all := lw_g (lw_at lw_m7 229 rfl) rfl
theorem q1723 : (Jvm.Cond.methodLink "HoldtagLaw" (71 : Nat) ({ cls := "Holdtag", name := "holds", desc := "(I)I" } : Jvm.MethodName)) ∈ lw_all := lw_g (lw_at lw_m7 230 rfl) rfl
theorem q1754 : (Jvm.Cond.methodLink "HoldtagLaw" (177 : Nat) ({ cls := "HoldtagLaw", name := "state", desc := "(LHoldtag;I[J)I" } : Jvm.MethodName)) ∈ lw_all := lw_g (lw_at lw_m8 21 rfl) rfl
theorem q1755 : (Jvm.Cond.static ({ cls := "HoldtagLaw", name := "state", desc := "(LHoldtag;I[J)I" } : Jvm.MethodName)) ∈ lw_all := lw_g (lw_at lw_m8 22 rfl) rfl
theorem q1756 : (Jvm.Cond.codeWith ({ cls := "HoldtagLaw", name := "state", desc := "(LHoldtag;I[J)I" } : Jvm.MethodName) method_21_code (4 : Nat) (Option.some Jvm.ClassFile.FieldType.int) [((0 : Nat), (9 : Nat), (12 : Nat), (13 : Nat))]) ∈ lw_all := lw_g (lw_at lw_m8 23 rfl) rfl
theorem q1757 : (Jvm.Cond.methodLink "HoldtagLaw" (74 : Nat) ({ cls := "Holdtag", name := "state", desc := "(I)I" } : Jvm.MethodName)) ∈ lw_all := lw_g (lw_at lw_m8 24 rfl) rfl
theorem q1761 : (Jvm.Cond.methodLink "HoldtagLaw" (180 : Nat) ({ cls := "HoldtagLaw", name := "count", desc := "(LHoldtag;IZ[J)I" } : Jvm.MethodName)) ∈ lw_all := lw_g (lw_at lw_m8 28 rfl) rfl
theorem q1762 : (Jvm.Cond.static ({ cls := "HoldtagLaw", name := "count", desc := "(LHoldtag;IZ[J)I" } : Jvm.MethodName)) ∈ lw_all := lw_g (lw_at lw_m8 29 rfl) rfl
theorem q1763 : (Jvm.Cond.codeWith ({ cls := "HoldtagLaw", name := "count", desc := "(LHoldtag;IZ[J)I" } : Jvm.MethodName) method_22_code (5 : Nat) (Option.some Jvm.ClassFile.FieldType.int) [((0 : Nat), (10 : Nat), (13 : Nat), (21 : Nat))]) ∈ lw_all := lw_g (lw_at lw_m8 30 rfl) rfl
theorem q1764 : (Jvm.Cond.methodLink "HoldtagLaw" (77 : Nat) ({ cls := "Holdtag", name := "count", desc := "(IZ)I" } : Jvm.MethodName)) ∈ lw_all := lw_g (lw_at lw_m8 31 rfl) rfl
theorem q1768 : (Jvm.Cond.methodLink "HoldtagLaw" (184 : Nat) ({ cls := "HoldtagLaw", name := "tagOf", desc := "(LHoldtag;I[J)I" } : Jvm.MethodName)) ∈ lw_all := lw_g (lw_at lw_m8 35 rfl) rfl
theorem q1769 : (Jvm.Cond.static ({ cls := "HoldtagLaw", name := "tagOf", desc := "(LHoldtag;I[J)I" } : Jvm.MethodName)) ∈ lw_all := lw_g (lw_at lw_m8 36 rfl) rfl
theorem q1770 : (Jvm.Cond.codeWith ({ cls := "HoldtagLaw", name := "tagOf", desc := "(LHoldtag;I[J)I" } : Jvm.MethodName) method_23_code (4 : Nat) (Option.some Jvm.ClassFile.FieldType.int) [((0 : Nat), (9 : Nat), (12 : Nat), (13 : Nat))]) ∈ lw_all := lw_g (lw_at lw_m8 37 rfl) rfl
theorem q1771 : (Jvm.Cond.methodLink "HoldtagLaw" (81 : Nat) ({ cls := "Holdtag", name := "tagOf", desc := "(I)I" } : Jvm.MethodName)) ∈ lw_all := lw_g (lw_at lw_m8 38 rfl) rfl
theorem q1775 : (Jvm.Cond.methodLink "HoldtagLaw" (187 : Nat) ({ cls := "HoldtagLaw", name := "ruleOf", desc := "(LHoldtag;I[J)I" } : Jvm.MethodName)) ∈ lw_all := lw_g (lw_at lw_m8 42 rfl) rfl
theorem q1776 : (Jvm.Cond.static ({ cls := "HoldtagLaw", name := "ruleOf", desc := "(LHoldtag;I[J)I" } : Jvm.MethodName)) ∈ lw_all := lw_g (lw_at lw_m8 43 rfl) rfl
theorem q1777 : (Jvm.Cond.codeWith ({ cls := "HoldtagLaw", name := "ruleOf", desc := "(LHoldtag;I[J)I" } : Jvm.MethodName) method_24_code (4 : Nat) (Option.some Jvm.ClassFile.FieldType.int) [((0 : Nat), (9 : Nat), (12 : Nat), (13 : Nat))]) ∈ lw_all := lw_g (lw_at lw_m8 44 rfl) rfl
theorem q1778 : (Jvm.Cond.methodLink "HoldtagLaw" (84 : Nat) ({ cls := "Holdtag", name := "ruleOf", desc := "(I)I" } : Jvm.MethodName)) ∈ lw_all := lw_g (lw_at lw_m8 45 rfl) rfl
theorem q1782 : (Jvm.Cond.methodLink "HoldtagLaw" (190 : Nat) ({ cls := "HoldtagLaw", name := "due", desc := "(LHoldtag;I[J)I" } : Jvm.MethodName)) ∈ lw_all := lw_g (lw_at lw_m8 49 rfl) rfl
theorem q1783 : (Jvm.Cond.static ({ cls := "HoldtagLaw", name := "due", desc := "(LHoldtag;I[J)I" } : Jvm.MethodName)) ∈ lw_all := lw_g (lw_at lw_m8 50 rfl) rfl
theorem q1784 : (Jvm.Cond.codeWith ({ cls := "HoldtagLaw", name := "due", desc := "(LHoldtag;I[J)I" } : Jvm.MethodName) method_25_code (4 : Nat) (Option.some Jvm.ClassFile.FieldType.int) [((0 : Nat), (9 : Nat), (12 : Nat), (13 : Nat))]) ∈ lw_all := lw_g (lw_at lw_m8 51 rfl) rfl
theorem q1785 : (Jvm.Cond.methodLink "HoldtagLaw" (87 : Nat) ({ cls := "Holdtag", name := "due", desc := "(I)I" } : Jvm.MethodName)) ∈ lw_all := lw_g (lw_at lw_m8 52 rfl) rfl
theorem q1789 : (Jvm.Cond.methodLink "HoldtagLaw" (193 : Nat) ({ cls := "HoldtagLaw", name := "end", desc := "(LHoldtag;I[J)I" } : Jvm.MethodName)) ∈ lw_all := lw_g (lw_at lw_m8 56 rfl) rfl
theorem q1790 : (Jvm.Cond.static ({ cls := "HoldtagLaw", name := "end", desc := "(LHoldtag;I[J)I" } : Jvm.MethodName)) ∈ lw_all := lw_g (lw_at lw_m8 57 rfl) rfl
theorem q1791 : (Jvm.Cond.codeWith ({ cls := "HoldtagLaw", name := "end", desc := "(LHoldtag;I[J)I" } : Jvm.MethodName) method_26_code (4 : Nat) (Option.some Jvm.ClassFile.FieldType.int) [((0 : Nat), (9 : Nat), (12 : Nat), (13 : Nat))]) ∈ lw_all := lw_g (lw_at lw_m8 58 rfl) rfl
theorem q1792 : (Jvm.Cond.methodLink "HoldtagLaw" (90 : Nat) ({ cls := "Holdtag", name := "end", desc := "(I)I" } : Jvm.MethodName)) ∈ lw_all := lw_g (lw_at lw_m8 59 rfl) rfl
theorem q1796 : (Jvm.Cond.methodLink "HoldtagLaw" (196 : Nat) ({ cls := "HoldtagLaw", name := "firstOut", desc := "(LHoldtag;[J)I" } : Jvm.MethodName)) ∈ lw_all := lw_g (lw_at lw_m8 63 rfl) rfl
theorem q1797 : (Jvm.Cond.static ({ cls := "HoldtagLaw", name := "firstOut", desc := "(LHoldtag;[J)I" } : Jvm.MethodName)) ∈ lw_all := lw_g (lw_at lw_m8 64 rfl) rfl
theorem q1798 : (Jvm.Cond.codeWith ({ cls := "HoldtagLaw", name := "firstOut", desc := "(LHoldtag;[J)I" } : Jvm.MethodName) method_27_code (3 : Nat) (Option.some Jvm.ClassFile.FieldType.int) [((0 : Nat), (8 : Nat), (11 : Nat), (97 : Nat))]) ∈ lw_all := lw_g (lw_at lw_m8 65 rfl) rfl
theorem q1799 : (Jvm.Cond.classLink "HoldtagLaw" (97 : Nat) "java/util/NoSuchElementException") ∈ lw_all := lw_g (lw_at lw_m8 66 rfl) rfl
theorem q1800 : (Jvm.Cond.methodLink "HoldtagLaw" (93 : Nat) ({ cls := "Holdtag", name := "firstOut", desc := "()I" } : Jvm.MethodName)) ∈ lw_all := lw_g (lw_at lw_m8 67 rfl) rfl
theorem q1813 : (Jvm.Cond.methodLink "HoldtagLaw" (200 : Nat) ({ cls := "HoldtagLaw", name := "write", desc := "(LHoldtag;I[J)I" } : Jvm.MethodName)) ∈ lw_all := lw_g (lw_at lw_m8 80 rfl) rfl
theorem q1814 : (Jvm.Cond.static ({ cls := "HoldtagLaw", name := "write", desc := "(LHoldtag;I[J)I" } : Jvm.MethodName)) ∈ lw_all := lw_g (lw_at lw_m8 81 rfl) rfl
theorem q1815 : (Jvm.Cond.codeWith ({ cls := "HoldtagLaw", name := "write", desc := "(LHoldtag;I[J)I" } : Jvm.MethodName) method_28_code (4 : Nat) (Option.some Jvm.ClassFile.FieldType.int) [((0 : Nat), (9 : Nat), (12 : Nat), (13 : Nat))]) ∈ lw_all := lw_g (lw_at lw_m8 82 rfl) rfl
theorem q1816 : (Jvm.Cond.methodLink "HoldtagLaw" (99 : Nat) ({ cls := "Holdtag", name := "write", desc := "(I)I" } : Jvm.MethodName)) ∈ lw_all := lw_g (lw_at lw_m8 83 rfl) rfl
theorem q1901 : (Jvm.Cond.classLink "HoldtagLaw" (103 : Nat) "HoldtagModel") ∈ lw_all := lw_g (lw_at lw_m8 168 rfl) rfl
theorem q1903 : (Jvm.Cond.methodLink "HoldtagLaw" (105 : Nat) ({ cls := "HoldtagModel", name := "<init>", desc := "()V" } : Jvm.MethodName)) ∈ lw_all := lw_g (lw_at lw_m8 170 rfl) rfl
theorem q2016 : (Jvm.Cond.methodLink "HoldtagLaw" (116 : Nat) ({ cls := "HoldtagModel", name := "thrown", desc := "()I" } : Jvm.MethodName)) ∈ lw_all := lw_g (lw_at lw_m9 43 rfl) rfl
theorem q2020 : (Jvm.Cond.methodLink "HoldtagLaw" (109 : Nat) ({ cls := "HoldtagModel", name := "clear", desc := "()I" } : Jvm.MethodName)) ∈ lw_all := lw_g (lw_at lw_m9 47 rfl) rfl
theorem q2028 : (Jvm.Cond.methodLink "HoldtagLaw" (115 : Nat) ({ cls := "HoldtagModel", name := "folder", desc := "(I)I" } : Jvm.MethodName)) ∈ lw_all := lw_g (lw_at lw_m9 55 rfl) rfl
theorem q2043 : (Jvm.Cond.methodLink "HoldtagLaw" (122 : Nat) ({ cls := "HoldtagModel", name := "tag", desc := "(III)I" } : Jvm.MethodName)) ∈ lw_all := lw_g (lw_at lw_m9 70 rfl) rfl
theorem q2047 : (Jvm.Cond.methodLink "HoldtagLaw" (126 : Nat) ({ cls := "HoldtagModel", name := "tagFolder", desc := "(II)I" } : Jvm.MethodName)) ∈ lw_all := lw_g (lw_at lw_m9 74 rfl) rfl
theorem q2055 : (Jvm.Cond.methodLink "HoldtagLaw" (129 : Nat) ({ cls := "HoldtagModel", name := "tagItem", desc := "(II)I" } : Jvm.MethodName)) ∈ lw_all := lw_g (lw_at lw_m9 82 rfl) rfl
theorem q2063 : (Jvm.Cond.methodLink "HoldtagLaw" (132 : Nat) ({ cls := "HoldtagModel", name := "byDefault", desc := "(I)I" } : Jvm.MethodName)) ∈ lw_all := lw_g (lw_at lw_m9 90 rfl) rfl
theorem q2067 : (Jvm.Cond.methodLink "HoldtagLaw" (136 : Nat) ({ cls := "HoldtagModel", name := "item", desc := "(IIII)I" } : Jvm.MethodName)) ∈ lw_all := lw_g (lw_at lw_m9 94 rfl) rfl
theorem q2074 : (Jvm.Cond.methodLink "HoldtagLaw" (139 : Nat) ({ cls := "HoldtagModel", name := "meeting", desc := "(II)I" } : Jvm.MethodName)) ∈ lw_all := lw_g (lw_at lw_m9 101 rfl) rfl
theorem q2079 : (Jvm.Cond.methodLink "HoldtagLaw" (142 : Nat) ({ cls := "HoldtagModel", name := "event", desc := "(II)I" } : Jvm.MethodName)) ∈ lw_all := lw_g (lw_at lw_m9 106 rfl) rfl
theorem q2083 : (Jvm.Cond.methodLink "HoldtagLaw" (145 : Nat) ({ cls := "HoldtagModel", name := "move", desc := "(II)I" } : Jvm.MethodName)) ∈ lw_all := lw_g (lw_at lw_m9 110 rfl) rfl
theorem q2087 : (Jvm.Cond.methodLink "HoldtagLaw" (148 : Nat) ({ cls := "HoldtagModel", name := "edit", desc := "(II)I" } : Jvm.MethodName)) ∈ lw_all := lw_g (lw_at lw_m9 114 rfl) rfl
theorem q2123 : (Jvm.Cond.methodLink "HoldtagLaw" (151 : Nat) ({ cls := "HoldtagModel", name := "delete", desc := "(I)I" } : Jvm.MethodName)) ∈ lw_all := lw_g (lw_at lw_m9 150 rfl) rfl
theorem q2127 : (Jvm.Cond.methodLink "HoldtagLaw" (154 : Nat) ({ cls := "HoldtagModel", name := "purge", desc := "(I)Z" } : Jvm.MethodName)) ∈ lw_all := lw_g (lw_at lw_m9 154 rfl) rfl
theorem q2131 : (Jvm.Cond.methodLink "HoldtagLaw" (157 : Nat) ({ cls := "HoldtagModel", name := "recover", desc := "(I)I" } : Jvm.MethodName)) ∈ lw_all := lw_g (lw_at lw_m9 158 rfl) rfl
theorem q2135 : (Jvm.Cond.methodLink "HoldtagLaw" (160 : Nat) ({ cls := "HoldtagModel", name := "keep", desc := "(II)I" } : Jvm.MethodName)) ∈ lw_all := lw_g (lw_at lw_m9 162 rfl) rfl
theorem q2139 : (Jvm.Cond.methodLink "HoldtagLaw" (163 : Nat) ({ cls := "HoldtagModel", name := "pass", desc := "(I)I" } : Jvm.MethodName)) ∈ lw_all := lw_g (lw_at lw_m9 166 rfl) rfl
theorem q2167 : (Jvm.Cond.methodLink "HoldtagLaw" (166 : Nat) ({ cls := "HoldtagModel", name := "hold", desc := "(IIII)I" } : Jvm.MethodName)) ∈ lw_all := lw_g (lw_at lw_m9 194 rfl) rfl
theorem q2171 : (Jvm.Cond.methodLink "HoldtagLaw" (169 : Nat) ({ cls := "HoldtagModel", name := "release", desc := "(I)I" } : Jvm.MethodName)) ∈ lw_all := lw_g (lw_at lw_m9 198 rfl) rfl
theorem q2175 : (Jvm.Cond.methodLink "HoldtagLaw" (172 : Nat) ({ cls := "HoldtagModel", name := "holds", desc := "(I)I" } : Jvm.MethodName)) ∈ lw_all := lw_g (lw_at lw_m9 202 rfl) rfl
theorem q2179 : (Jvm.Cond.methodLink "HoldtagLaw" (176 : Nat) ({ cls := "HoldtagModel", name := "today", desc := "()I" } : Jvm.MethodName)) ∈ lw_all := lw_g (lw_at lw_m9 206 rfl) rfl
theorem q2183 : (Jvm.Cond.methodLink "HoldtagLaw" (179 : Nat) ({ cls := "HoldtagModel", name := "state", desc := "(I)I" } : Jvm.MethodName)) ∈ lw_all := lw_g (lw_at lw_m9 210 rfl) rfl
theorem q2187 : (Jvm.Cond.methodLink "HoldtagLaw" (183 : Nat) ({ cls := "HoldtagModel", name := "count", desc := "(IZ)I" } : Jvm.MethodName)) ∈ lw_all := lw_g (lw_at lw_m9 214 rfl) rfl
theorem q2191 : (Jvm.Cond.methodLink "HoldtagLaw" (186 : Nat) ({ cls := "HoldtagModel", name := "tagOf", desc := "(I)I" } : Jvm.MethodName)) ∈ lw_all := lw_g (lw_at lw_m9 218 rfl) rfl
theorem q2195 : (Jvm.Cond.methodLink "HoldtagLaw" (189 : Nat) ({ cls := "HoldtagModel", name := "ruleOf", desc := "(I)I" } : Jvm.MethodName)) ∈ lw_all := lw_g (lw_at lw_m9 222 rfl) rfl
theorem q2199 : (Jvm.Cond.methodLink "HoldtagLaw" (192 : Nat) ({ cls := "HoldtagModel", name := "due", desc := "(I)I" } : Jvm.MethodName)) ∈ lw_all := lw_g (lw_at lw_m9 226 rfl) rfl
theorem q2203 : (Jvm.Cond.methodLink "HoldtagLaw" (195 : Nat) ({ cls := "HoldtagModel", name := "end", desc := "(I)I" } : Jvm.MethodName)) ∈ lw_all := lw_g (lw_at lw_m9 230 rfl) rfl
theorem q2214 : (Jvm.Cond.methodLink "HoldtagLaw" (199 : Nat) ({ cls := "HoldtagModel", name := "firstOut", desc := "()I" } : Jvm.MethodName)) ∈ lw_all := lw_g (lw_at lw_m10 1 rfl) rfl
theorem q2218 : (Jvm.Cond.methodLink "HoldtagLaw" (202 : Nat) ({ cls := "HoldtagModel", name := "write", desc := "(I)I" } : Jvm.MethodName)) ∈ lw_all := lw_g (lw_at lw_m10 5 rfl) rfl
theorem q2234 : (Jvm.Cond.methodLink "HoldtagLaw" (206 : Nat) ({ cls := "HoldtagModel", name := "outputAt", desc := "(I)I" } : Jvm.MethodName)) ∈ lw_all := lw_g (lw_at lw_m10 21 rfl) rfl
theorem q2238 : (Jvm.Cond.methodLink "HoldtagLaw" (211 : Nat) ({ cls := "HoldtagModel", name := "meanAge", desc := "()D" } : Jvm.MethodName)) ∈ lw_all := lw_g (lw_at lw_m10 25 rfl) rfl
theorem q2242 : (Jvm.Cond.methodLink "HoldtagLaw" (216 : Nat) ({ cls := "HoldtagModel", name := "heldShare", desc := "()F" } : Jvm.MethodName)) ∈ lw_all := lw_g (lw_at lw_m10 29 rfl) rfl
theorem q2246 : (Jvm.Cond.methodLink "HoldtagLaw" (220 : Nat) ({ cls := "HoldtagModel", name := "errors", desc := "()I" } : Jvm.MethodName)) ∈ lw_all := lw_g (lw_at lw_m10 33 rfl) rfl

/-! the law's own entry -/
set_option maxRecDepth 100000
abbrev cL_law : ByteArray := code
def dkwL_law_80 : List UInt8 := [167, 0, 16, 43, 182, 0, 217, 44, 182, 0, 220, 159, 0, 5, 3, 172, 132, 4, 5, 167, 248, 81, 4, 172]
abbrev dktL_law_80 : List UInt8 := dkwL_law_80 ++ []
def dkwL_law_79 : List UInt8 := [24, 7, 151, 153, 0, 21, 24, 5, 24, 5, 151, 153, 0, 11, 24, 7, 24, 7, 151, 154, 0, 5, 3, 172]
abbrev dktL_law_79 : List UInt8 := dkwL_law_79 ++ dktL_law_80
def dkwL_law_78 : List UInt8 := [154, 0, 5, 3, 172, 167, 0, 59, 43, 182, 0, 212, 141, 57, 5, 44, 182, 0, 216, 141, 57, 7, 24, 5]
abbrev dktL_law_78 : List UInt8 := dkwL_law_78 ++ dktL_law_79
def dkwL_law_77 : List UInt8 := [57, 7, 24, 5, 24, 7, 151, 153, 0, 21, 24, 5, 24, 5, 151, 153, 0, 11, 24, 7, 24, 7, 151]
abbrev dktL_law_77 : List UInt8 := dkwL_law_77 ++ dktL_law_78
def dkwL_law_76 : List UInt8 := [21, 4, 4, 96, 46, 182, 0, 206, 159, 0, 102, 3, 172, 43, 182, 0, 207, 57, 5, 44, 182, 0, 211]
abbrev dktL_law_76 : List UInt8 := dkwL_law_76 ++ dktL_law_77
def dkwL_law_75 : List UInt8 := [21, 6, 133, 148, 153, 0, 5, 3, 172, 167, 0, 125, 43, 42, 21, 4, 4, 96, 46, 182, 0, 203, 44, 42]
abbrev dktL_law_75 : List UInt8 := dkwL_law_75 ++ dktL_law_76
def dkwL_law_74 : List UInt8 := [182, 0, 202, 54, 6, 44, 182, 0, 116, 21, 5, 159, 0, 5, 3, 172, 21, 5, 154, 0, 15, 45, 3, 47]
abbrev dktL_law_74 : List UInt8 := dkwL_law_74 ++ dktL_law_75
def dkwL_law_73 : List UInt8 := [167, 0, 181, 43, 42, 21, 4, 4, 96, 46, 45, 184, 0, 200, 54, 5, 44, 42, 21, 4, 4, 96, 46]
abbrev dktL_law_73 : List UInt8 := dkwL_law_73 ++ dktL_law_74
def dkwL_law_72 : List UInt8 := [159, 0, 5, 3, 172, 21, 5, 154, 0, 15, 45, 3, 47, 21, 6, 133, 148, 153, 0, 5, 3, 172]
abbrev dktL_law_72 : List UInt8 := dkwL_law_72 ++ dktL_law_73
def dkwL_law_71 : List UInt8 := [167, 0, 225, 43, 45, 184, 0, 196, 54, 5, 44, 182, 0, 199, 54, 6, 44, 182, 0, 116, 21, 5]
abbrev dktL_law_71 : List UInt8 := dkwL_law_71 ++ dktL_law_72
def dkwL_law_70 : List UInt8 := [21, 5, 159, 0, 5, 3, 172, 21, 5, 154, 0, 15, 45, 3, 47, 21, 6, 133, 148, 153, 0, 5, 3, 172]
abbrev dktL_law_70 : List UInt8 := dkwL_law_70 ++ dktL_law_71
def dkwL_law_69 : List UInt8 := [46, 45, 184, 0, 193, 54, 5, 44, 42, 21, 4, 4, 96, 46, 182, 0, 195, 54, 6, 44, 182, 0, 116]
abbrev dktL_law_69 : List UInt8 := dkwL_law_69 ++ dktL_law_70
def dkwL_law_68 : List UInt8 := [154, 0, 15, 45, 3, 47, 21, 6, 133, 148, 153, 0, 5, 3, 172, 167, 1, 25, 43, 42, 21, 4, 4, 96]
abbrev dktL_law_68 : List UInt8 := dkwL_law_68 ++ dktL_law_69
def dkwL_law_67 : List UInt8 := [21, 4, 4, 96, 46, 182, 0, 192, 54, 6, 44, 182, 0, 116, 21, 5, 159, 0, 5, 3, 172, 21, 5]
abbrev dktL_law_67 : List UInt8 := dkwL_law_67 ++ dktL_law_68
def dkwL_law_66 : List UInt8 := [153, 0, 5, 3, 172, 167, 1, 81, 43, 42, 21, 4, 4, 96, 46, 45, 184, 0, 190, 54, 5, 44, 42]
abbrev dktL_law_66 : List UInt8 := dkwL_law_66 ++ dktL_law_67
def dkwL_law_65 : List UInt8 := [182, 0, 116, 21, 5, 159, 0, 5, 3, 172, 21, 5, 154, 0, 15, 45, 3, 47, 21, 6, 133, 148]
abbrev dktL_law_65 : List UInt8 := dkwL_law_65 ++ dktL_law_66
def dkwL_law_64 : List UInt8 := [21, 4, 4, 96, 46, 45, 184, 0, 187, 54, 5, 44, 42, 21, 4, 4, 96, 46, 182, 0, 189, 54, 6, 44]
abbrev dktL_law_64 : List UInt8 := dkwL_law_64 ++ dktL_law_65
def dkwL_law_63 : List UInt8 := [172, 21, 5, 154, 0, 15, 45, 3, 47, 21, 6, 133, 148, 153, 0, 5, 3, 172, 167, 1, 137, 43, 42]
abbrev dktL_law_63 : List UInt8 := dkwL_law_63 ++ dktL_law_64
def dkwL_law_62 : List UInt8 := [54, 5, 44, 42, 21, 4, 4, 96, 46, 182, 0, 186, 54, 6, 44, 182, 0, 116, 21, 5, 159, 0, 5, 3]
abbrev dktL_law_62 : List UInt8 := dkwL_law_62 ++ dktL_law_63
def dkwL_law_61 : List UInt8 := [21, 6, 133, 148, 153, 0, 5, 3, 172, 167, 1, 193, 43, 42, 21, 4, 4, 96, 46, 45, 184, 0, 184]
abbrev dktL_law_61 : List UInt8 := dkwL_law_61 ++ dktL_law_62
def dkwL_law_60 : List UInt8 := [182, 0, 183, 54, 6, 44, 182, 0, 116, 21, 5, 159, 0, 5, 3, 172, 21, 5, 154, 0, 15, 45, 3, 47]
abbrev dktL_law_60 : List UInt8 := dkwL_law_60 ++ dktL_law_61
def dkwL_law_59 : List UInt8 := [54, 5, 44, 42, 21, 4, 4, 96, 46, 42, 21, 4, 5, 96, 46, 153, 0, 7, 4, 167, 0, 4, 3]
abbrev dktL_law_59 : List UInt8 := dkwL_law_59 ++ dktL_law_60
def dkwL_law_58 : List UInt8 := [21, 4, 4, 96, 46, 42, 21, 4, 5, 96, 46, 153, 0, 7, 4, 167, 0, 4, 3, 45, 184, 0, 180]
abbrev dktL_law_58 : List UInt8 := dkwL_law_58 ++ dktL_law_59
def dkwL_law_57 : List UInt8 := [172, 21, 5, 154, 0, 15, 45, 3, 47, 21, 6, 133, 148, 153, 0, 5, 3, 172, 167, 2, 21, 43, 42]
abbrev dktL_law_57 : List UInt8 := dkwL_law_57 ++ dktL_law_58
def dkwL_law_56 : List UInt8 := [54, 5, 44, 42, 21, 4, 4, 96, 46, 182, 0, 179, 54, 6, 44, 182, 0, 116, 21, 5, 159, 0, 5, 3]
abbrev dktL_law_56 : List UInt8 := dkwL_law_56 ++ dktL_law_57
def dkwL_law_55 : List UInt8 := [182, 0, 173, 44, 182, 0, 176, 159, 2, 79, 3, 172, 43, 42, 21, 4, 4, 96, 46, 45, 184, 0, 177]
abbrev dktL_law_55 : List UInt8 := dkwL_law_55 ++ dktL_law_56
def dkwL_law_54 : List UInt8 := [172, 21, 5, 154, 0, 15, 45, 3, 47, 21, 6, 133, 148, 153, 0, 5, 3, 172, 167, 2, 90, 43]
abbrev dktL_law_54 : List UInt8 := dkwL_law_54 ++ dktL_law_55
def dkwL_law_53 : List UInt8 := [54, 5, 44, 42, 21, 4, 4, 96, 46, 182, 0, 172, 54, 6, 44, 182, 0, 116, 21, 5, 159, 0, 5, 3]
abbrev dktL_law_53 : List UInt8 := dkwL_law_53 ++ dktL_law_54
def dkwL_law_52 : List UInt8 := [21, 6, 133, 148, 153, 0, 5, 3, 172, 167, 2, 146, 43, 42, 21, 4, 4, 96, 46, 45, 184, 0, 170]
abbrev dktL_law_52 : List UInt8 := dkwL_law_52 ++ dktL_law_53
def dkwL_law_51 : List UInt8 := [182, 0, 169, 54, 6, 44, 182, 0, 116, 21, 5, 159, 0, 5, 3, 172, 21, 5, 154, 0, 15, 45, 3, 47]
abbrev dktL_law_51 : List UInt8 := dkwL_law_51 ++ dktL_law_52
def dkwL_law_50 : List UInt8 := [167, 2, 202, 43, 42, 21, 4, 4, 96, 46, 45, 184, 0, 167, 54, 5, 44, 42, 21, 4, 4, 96, 46]
abbrev dktL_law_50 : List UInt8 := dkwL_law_50 ++ dktL_law_51
def dkwL_law_49 : List UInt8 := [159, 0, 5, 3, 172, 21, 5, 154, 0, 15, 45, 3, 47, 21, 6, 133, 148, 153, 0, 5, 3, 172]
abbrev dktL_law_49 : List UInt8 := dkwL_law_49 ++ dktL_law_50
def dkwL_law_48 : List UInt8 := [42, 21, 4, 6, 96, 46, 42, 21, 4, 7, 96, 46, 182, 0, 166, 54, 6, 44, 182, 0, 116, 21, 5]
abbrev dktL_law_48 : List UInt8 := dkwL_law_48 ++ dktL_law_49
def dkwL_law_47 : List UInt8 := [21, 4, 7, 96, 46, 45, 184, 0, 164, 54, 5, 44, 42, 21, 4, 4, 96, 46, 42, 21, 4, 5, 96, 46]
abbrev dktL_law_47 : List UInt8 := dkwL_law_47 ++ dktL_law_48
def dkwL_law_46 : List UInt8 := [167, 3, 38, 43, 42, 21, 4, 4, 96, 46, 42, 21, 4, 5, 96, 46, 42, 21, 4, 6, 96, 46, 42]
abbrev dktL_law_46 : List UInt8 := dkwL_law_46 ++ dktL_law_47
def dkwL_law_45 : List UInt8 := [159, 0, 5, 3, 172, 21, 5, 154, 0, 15, 45, 3, 47, 21, 6, 133, 148, 153, 0, 5, 3, 172]
abbrev dktL_law_45 : List UInt8 := dkwL_law_45 ++ dktL_law_46
def dkwL_law_44 : List UInt8 := [184, 0, 161, 54, 5, 44, 42, 21, 4, 4, 96, 46, 182, 0, 163, 54, 6, 44, 182, 0, 116, 21, 5]
abbrev dktL_law_44 : List UInt8 := dkwL_law_44 ++ dktL_law_45
def dkwL_law_43 : List UInt8 := [3, 47, 21, 6, 133, 148, 153, 0, 5, 3, 172, 167, 3, 94, 43, 42, 21, 4, 4, 96, 46, 45]
abbrev dktL_law_43 : List UInt8 := dkwL_law_43 ++ dktL_law_44
def dkwL_law_42 : List UInt8 := [96, 46, 182, 0, 160, 54, 6, 44, 182, 0, 116, 21, 5, 159, 0, 5, 3, 172, 21, 5, 154, 0, 15, 45]
abbrev dktL_law_42 : List UInt8 := dkwL_law_42 ++ dktL_law_43
def dkwL_law_41 : List UInt8 := [46, 42, 21, 4, 5, 96, 46, 45, 184, 0, 158, 54, 5, 44, 42, 21, 4, 4, 96, 46, 42, 21, 4, 5]
abbrev dktL_law_41 : List UInt8 := dkwL_law_41 ++ dktL_law_42
def dkwL_law_40 : List UInt8 := [154, 0, 15, 45, 3, 47, 21, 6, 133, 148, 153, 0, 5, 3, 172, 167, 3, 162, 43, 42, 21, 4, 4, 96]
abbrev dktL_law_40 : List UInt8 := dkwL_law_40 ++ dktL_law_41
def dkwL_law_39 : List UInt8 := [42, 21, 4, 4, 96, 46, 182, 0, 157, 54, 6, 44, 182, 0, 116, 21, 5, 159, 0, 5, 3, 172, 21, 5]
abbrev dktL_law_39 : List UInt8 := dkwL_law_39 ++ dktL_law_40
def dkwL_law_38 : List UInt8 := [9, 148, 153, 0, 5, 3, 172, 167, 3, 218, 43, 42, 21, 4, 4, 96, 46, 45, 184, 0, 155, 54, 5, 44]
abbrev dktL_law_38 : List UInt8 := dkwL_law_38 ++ dktL_law_39
def dkwL_law_37 : List UInt8 := [21, 5, 159, 0, 5, 3, 172, 21, 5, 154, 0, 22, 45, 3, 47, 21, 6, 153, 0, 7, 10, 167, 0, 4]
abbrev dktL_law_37 : List UInt8 := dkwL_law_37 ++ dktL_law_38
def dkwL_law_36 : List UInt8 := [46, 45, 184, 0, 152, 54, 5, 44, 42, 21, 4, 4, 96, 46, 182, 0, 154, 54, 6, 44, 182, 0, 116]
abbrev dktL_law_36 : List UInt8 := dkwL_law_36 ++ dktL_law_37
def dkwL_law_35 : List UInt8 := [154, 0, 15, 45, 3, 47, 21, 6, 133, 148, 153, 0, 5, 3, 172, 167, 4, 25, 43, 42, 21, 4, 4, 96]
abbrev dktL_law_35 : List UInt8 := dkwL_law_35 ++ dktL_law_36
def dkwL_law_34 : List UInt8 := [21, 4, 4, 96, 46, 182, 0, 151, 54, 6, 44, 182, 0, 116, 21, 5, 159, 0, 5, 3, 172, 21, 5]
abbrev dktL_law_34 : List UInt8 := dkwL_law_34 ++ dktL_law_35
def dkwL_law_33 : List UInt8 := [153, 0, 5, 3, 172, 167, 4, 81, 43, 42, 21, 4, 4, 96, 46, 45, 184, 0, 149, 54, 5, 44, 42]
abbrev dktL_law_33 : List UInt8 := dkwL_law_33 ++ dktL_law_34
def dkwL_law_32 : List UInt8 := [182, 0, 116, 21, 5, 159, 0, 5, 3, 172, 21, 5, 154, 0, 15, 45, 3, 47, 21, 6, 133, 148]
abbrev dktL_law_32 : List UInt8 := dkwL_law_32 ++ dktL_law_33
def dkwL_law_31 : List UInt8 := [184, 0, 146, 54, 5, 44, 42, 21, 4, 4, 96, 46, 42, 21, 4, 5, 96, 46, 182, 0, 148, 54, 6, 44]
abbrev dktL_law_31 : List UInt8 := dkwL_law_31 ++ dktL_law_32
def dkwL_law_30 : List UInt8 := [153, 0, 5, 3, 172, 167, 4, 149, 43, 42, 21, 4, 4, 96, 46, 42, 21, 4, 5, 96, 46, 45]
abbrev dktL_law_30 : List UInt8 := dkwL_law_30 ++ dktL_law_31
def dkwL_law_29 : List UInt8 := [182, 0, 116, 21, 5, 159, 0, 5, 3, 172, 21, 5, 154, 0, 15, 45, 3, 47, 21, 6, 133, 148]
abbrev dktL_law_29 : List UInt8 := dkwL_law_29 ++ dktL_law_30
def dkwL_law_28 : List UInt8 := [184, 0, 143, 54, 5, 44, 42, 21, 4, 4, 96, 46, 42, 21, 4, 5, 96, 46, 182, 0, 145, 54, 6, 44]
abbrev dktL_law_28 : List UInt8 := dkwL_law_28 ++ dktL_law_29
def dkwL_law_27 : List UInt8 := [148, 153, 0, 5, 3, 172, 167, 4, 217, 43, 42, 21, 4, 4, 96, 46, 42, 21, 4, 5, 96, 46, 45]
abbrev dktL_law_27 : List UInt8 := dkwL_law_27 ++ dktL_law_28
def dkwL_law_26 : List UInt8 := [54, 6, 44, 182, 0, 116, 21, 5, 159, 0, 5, 3, 172, 21, 5, 154, 0, 15, 45, 3, 47, 21, 6, 133]
abbrev dktL_law_26 : List UInt8 := dkwL_law_26 ++ dktL_law_27
def dkwL_law_25 : List UInt8 := [46, 45, 184, 0, 140, 54, 5, 44, 42, 21, 4, 4, 96, 46, 42, 21, 4, 5, 96, 46, 182, 0, 142]
abbrev dktL_law_25 : List UInt8 := dkwL_law_25 ++ dktL_law_26
def dkwL_law_24 : List UInt8 := [21, 6, 133, 148, 153, 0, 5, 3, 172, 167, 5, 29, 43, 42, 21, 4, 4, 96, 46, 42, 21, 4, 5, 96]
abbrev dktL_law_24 : List UInt8 := dkwL_law_24 ++ dktL_law_25
def dkwL_law_23 : List UInt8 := [182, 0, 139, 54, 6, 44, 182, 0, 116, 21, 5, 159, 0, 5, 3, 172, 21, 5, 154, 0, 15, 45, 3, 47]
abbrev dktL_law_23 : List UInt8 := dkwL_law_23 ++ dktL_law_24
def dkwL_law_22 : List UInt8 := [21, 4, 5, 96, 46, 45, 184, 0, 137, 54, 5, 44, 42, 21, 4, 4, 96, 46, 42, 21, 4, 5, 96, 46]
abbrev dktL_law_22 : List UInt8 := dkwL_law_22 ++ dktL_law_23
def dkwL_law_21 : List UInt8 := [45, 3, 47, 21, 6, 133, 148, 153, 0, 5, 3, 172, 167, 5, 97, 43, 42, 21, 4, 4, 96, 46, 42]
abbrev dktL_law_21 : List UInt8 := dkwL_law_21 ++ dktL_law_22
def dkwL_law_20 : List UInt8 := [7, 96, 46, 182, 0, 136, 54, 6, 44, 182, 0, 116, 21, 5, 159, 0, 5, 3, 172, 21, 5, 154, 0, 15]
abbrev dktL_law_20 : List UInt8 := dkwL_law_20 ++ dktL_law_21
def dkwL_law_19 : List UInt8 := [54, 5, 44, 42, 21, 4, 4, 96, 46, 42, 21, 4, 5, 96, 46, 42, 21, 4, 6, 96, 46, 42, 21, 4]
abbrev dktL_law_19 : List UInt8 := dkwL_law_19 ++ dktL_law_20
def dkwL_law_18 : List UInt8 := [46, 42, 21, 4, 5, 96, 46, 42, 21, 4, 6, 96, 46, 42, 21, 4, 7, 96, 46, 45, 184, 0, 133]
abbrev dktL_law_18 : List UInt8 := dkwL_law_18 ++ dktL_law_19
def dkwL_law_17 : List UInt8 := [154, 0, 15, 45, 3, 47, 21, 6, 133, 148, 153, 0, 5, 3, 172, 167, 5, 189, 43, 42, 21, 4, 4, 96]
abbrev dktL_law_17 : List UInt8 := dkwL_law_17 ++ dktL_law_18
def dkwL_law_16 : List UInt8 := [21, 4, 4, 96, 46, 182, 0, 132, 54, 6, 44, 182, 0, 116, 21, 5, 159, 0, 5, 3, 172, 21, 5]
abbrev dktL_law_16 : List UInt8 := dkwL_law_16 ++ dktL_law_17
def dkwL_law_15 : List UInt8 := [153, 0, 5, 3, 172, 167, 5, 245, 43, 42, 21, 4, 4, 96, 46, 45, 184, 0, 130, 54, 5, 44, 42]
abbrev dktL_law_15 : List UInt8 := dkwL_law_15 ++ dktL_law_16
def dkwL_law_14 : List UInt8 := [182, 0, 116, 21, 5, 159, 0, 5, 3, 172, 21, 5, 154, 0, 15, 45, 3, 47, 21, 6, 133, 148]
abbrev dktL_law_14 : List UInt8 := dkwL_law_14 ++ dktL_law_15
def dkwL_law_13 : List UInt8 := [184, 0, 127, 54, 5, 44, 42, 21, 4, 4, 96, 46, 42, 21, 4, 5, 96, 46, 182, 0, 129, 54, 6, 44]
abbrev dktL_law_13 : List UInt8 := dkwL_law_13 ++ dktL_law_14
def dkwL_law_12 : List UInt8 := [153, 0, 5, 3, 172, 167, 6, 57, 43, 42, 21, 4, 4, 96, 46, 42, 21, 4, 5, 96, 46, 45]
abbrev dktL_law_12 : List UInt8 := dkwL_law_12 ++ dktL_law_13
def dkwL_law_11 : List UInt8 := [182, 0, 116, 21, 5, 159, 0, 5, 3, 172, 21, 5, 154, 0, 15, 45, 3, 47, 21, 6, 133, 148]
abbrev dktL_law_11 : List UInt8 := dkwL_law_11 ++ dktL_law_12
def dkwL_law_10 : List UInt8 := [184, 0, 123, 54, 5, 44, 42, 21, 4, 4, 96, 46, 42, 21, 4, 5, 96, 46, 182, 0, 126, 54, 6, 44]
abbrev dktL_law_10 : List UInt8 := dkwL_law_10 ++ dktL_law_11
def dkwL_law_9 : List UInt8 := [153, 0, 5, 3, 172, 167, 6, 125, 43, 42, 21, 4, 4, 96, 46, 42, 21, 4, 5, 96, 46, 45]
abbrev dktL_law_9 : List UInt8 := dkwL_law_9 ++ dktL_law_10
def dkwL_law_8 : List UInt8 := [182, 0, 116, 21, 5, 159, 0, 5, 3, 172, 21, 5, 154, 0, 15, 45, 3, 47, 21, 6, 133, 148]
abbrev dktL_law_8 : List UInt8 := dkwL_law_8 ++ dktL_law_9
def dkwL_law_7 : List UInt8 := [42, 21, 4, 4, 96, 46, 42, 21, 4, 5, 96, 46, 42, 21, 4, 6, 96, 46, 182, 0, 122, 54, 6, 44]
abbrev dktL_law_7 : List UInt8 := dkwL_law_7 ++ dktL_law_8
def dkwL_law_6 : List UInt8 := [21, 4, 4, 96, 46, 42, 21, 4, 5, 96, 46, 42, 21, 4, 6, 96, 46, 45, 184, 0, 119, 54, 5, 44]
abbrev dktL_law_6 : List UInt8 := dkwL_law_6 ++ dktL_law_7
def dkwL_law_5 : List UInt8 := [172, 21, 5, 154, 0, 15, 45, 3, 47, 21, 6, 133, 148, 153, 0, 5, 3, 172, 167, 6, 205, 43, 42]
abbrev dktL_law_5 : List UInt8 := dkwL_law_5 ++ dktL_law_6
def dkwL_law_4 : List UInt8 := [54, 5, 44, 42, 21, 4, 4, 96, 46, 182, 0, 115, 54, 6, 44, 182, 0, 116, 21, 5, 159, 0, 5, 3]
abbrev dktL_law_4 : List UInt8 := dkwL_law_4 ++ dktL_law_5
def dkwL_law_3 : List UInt8 := [43, 182, 0, 106, 44, 182, 0, 109, 159, 7, 7, 3, 172, 43, 42, 21, 4, 4, 96, 46, 45, 184, 0, 110]
abbrev dktL_law_3 : List UInt8 := dkwL_law_3 ++ dktL_law_4
def dkwL_law_2 : List UInt8 := [170, 0, 0, 7, 156, 0, 0, 0, 0, 0, 0, 0, 31, 0, 0, 0, 141, 0, 0, 0, 154, 0, 0, 0, 210, 0, 0, 1, 34, 0, 0, 1, 102, 0, 0, 1, 170, 0, 0, 1, 226, 0, 0, 2, 62, 0, 0, 2, 130, 0, 0, 2, 198, 0, 0, 3, 10, 0, 0, 3, 78, 0, 0, 3, 134, 0, 0, 3, 197, 0, 0, 3, 253, 0, 0, 4, 65, 0, 0, 4, 121, 0, 0, 4, 213, 0, 0, 5, 13, 0, 0, 5, 69, 0, 0, 5, 82, 0, 0, 5, 138, 0, 0, 5, 222, 0, 0, 6, 22, 0, 0, 6, 78, 0, 0, 6, 134, 0, 0, 6, 190, 0, 0, 6, 234, 0, 0, 7, 34, 0, 0, 7, 59, 0, 0, 7, 100, 0, 0, 7, 143]
abbrev dktL_law_2 : List UInt8 := dkwL_law_2 ++ dktL_law_3
def dkwL_law_1 : List UInt8 := [21, 4, 42, 190, 8, 100, 163, 7, 172, 42, 21, 4, 46, 16, 31, 126]
abbrev dktL_law_1 : List UInt8 := dkwL_law_1 ++ dktL_law_2
def dkwL_law_0 : List UInt8 := [187, 0, 8, 89, 183, 0, 102, 76, 187, 0, 103, 89, 183, 0, 105, 77, 4, 188, 11, 78, 3, 54, 4]
abbrev dktL_law_0 : List UInt8 := dkwL_law_0 ++ dktL_law_1
theorem dksL_law_0 : cL_law.data.toList.drop 0 = dktL_law_0 := by decide +kernel
theorem dksL_law_1 : cL_law.data.toList.drop 23 = dktL_law_1 := dk_seg dksL_law_0 23 rfl rfl
theorem dksL_law_2 : cL_law.data.toList.drop 39 = dktL_law_2 := dk_seg dksL_law_1 16 rfl rfl
theorem dksL_law_3 : cL_law.data.toList.drop 180 = dktL_law_3 := dk_seg dksL_law_2 141 rfl rfl
theorem dksL_law_4 : cL_law.data.toList.drop 204 = dktL_law_4 := dk_seg dksL_law_3 24 rfl rfl
theorem dksL_law_5 : cL_law.data.toList.drop 228 = dktL_law_5 := dk_seg dksL_law_4 24 rfl rfl
theorem dksL_law_6 : cL_law.data.toList.drop 251 = dktL_law_6 := dk_seg dksL_law_5 23 rfl rfl
theorem dksL_law_7 : cL_law.data.toList.drop 275 = dktL_law_7 := dk_seg dksL_law_6 24 rfl rfl
theorem dksL_law_8 : cL_law.data.toList.drop 299 = dktL_law_8 := dk_seg dksL_law_7 24 rfl rfl
theorem dksL_law_9 : cL_law.data.toList.drop 321 = dktL_law_9 := dk_seg dksL_law_8 22 rfl rfl
theorem dksL_law_10 : cL_law.data.toList.drop 343 = dktL_law_10 := dk_seg dksL_law_9 22 rfl rfl
theorem dksL_law_11 : cL_law.data.toList.drop 367 = dktL_law_11 := dk_seg dksL_law_10 24 rfl rfl
theorem dksL_law_12 : cL_law.data.toList.drop 389 = dktL_law_12 := dk_seg dksL_law_11 22 rfl rfl
theorem dksL_law_13 : cL_law.data.toList.drop 411 = dktL_law_13 := dk_seg dksL_law_12 22 rfl rfl
theorem dksL_law_14 : cL_law.data.toList.drop 435 = dktL_law_14 := dk_seg dksL_law_13 24 rfl rfl
theorem dksL_law_15 : cL_law.data.toList.drop 457 = dktL_law_15 := dk_seg dksL_law_14 22 rfl rfl
theorem dksL_law_16 : cL_law.data.toList.drop 480 = dktL_law_16 := dk_seg dksL_law_15 23 rfl rfl
theorem dksL_law_17 : cL_law.data.toList.drop 503 = dktL_law_17 := dk_seg dksL_law_16 23 rfl rfl
theorem dksL_law_18 : cL_law.data.toList.drop 527 = dktL_law_18 := dk_seg dksL_law_17 24 rfl rfl
theorem dksL_law_19 : cL_law.data.toList.drop 550 = dktL_law_19 := dk_seg dksL_law_18 23 rfl rfl
theorem dksL_law_20 : cL_law.data.toList.drop 574 = dktL_law_20 := dk_seg dksL_law_19 24 rfl rfl
theorem dksL_law_21 : cL_law.data.toList.drop 598 = dktL_law_21 := dk_seg dksL_law_20 24 rfl rfl
theorem dksL_law_22 : cL_law.data.toList.drop 621 = dktL_law_22 := dk_seg dksL_law_21 23 rfl rfl
theorem dksL_law_23 : cL_law.data.toList.drop 645 = dktL_law_23 := dk_seg dksL_law_22 24 rfl rfl
theorem dksL_law_24 : cL_law.data.toList.drop 669 = dktL_law_24 := dk_seg dksL_law_23 24 rfl rfl
theorem dksL_law_25 : cL_law.data.toList.drop 693 = dktL_law_25 := dk_seg dksL_law_24 24 rfl rfl
theorem dksL_law_26 : cL_law.data.toList.drop 716 = dktL_law_26 := dk_seg dksL_law_25 23 rfl rfl
theorem dksL_law_27 : cL_law.data.toList.drop 740 = dktL_law_27 := dk_seg dksL_law_26 24 rfl rfl
theorem dksL_law_28 : cL_law.data.toList.drop 763 = dktL_law_28 := dk_seg dksL_law_27 23 rfl rfl
theorem dksL_law_29 : cL_law.data.toList.drop 787 = dktL_law_29 := dk_seg dksL_law_28 24 rfl rfl
theorem dksL_law_30 : cL_law.data.toList.drop 809 = dktL_law_30 := dk_seg dksL_law_29 22 rfl rfl
theorem dksL_law_31 : cL_law.data.toList.drop 831 = dktL_law_31 := dk_seg dksL_law_30 22 rfl rfl
theorem dksL_law_32 : cL_law.data.toList.drop 855 = dktL_law_32 := dk_seg dksL_law_31 24 rfl rfl
theorem dksL_law_33 : cL_law.data.toList.drop 877 = dktL_law_33 := dk_seg dksL_law_32 22 rfl rfl
theorem dksL_law_34 : cL_law.data.toList.drop 900 = dktL_law_34 := dk_seg dksL_law_33 23 rfl rfl
theorem dksL_law_35 : cL_law.data.toList.drop 923 = dktL_law_35 := dk_seg dksL_law_34 23 rfl rfl
theorem dksL_law_36 : cL_law.data.toList.drop 947 = dktL_law_36 := dk_seg dksL_law_35 24 rfl rfl
theorem dksL_law_37 : cL_law.data.toList.drop 970 = dktL_law_37 := dk_seg dksL_law_36 23 rfl rfl
theorem dksL_law_38 : cL_law.data.toList.drop 994 = dktL_law_38 := dk_seg dksL_law_37 24 rfl rfl
theorem dksL_law_39 : cL_law.data.toList.drop 1018 = dktL_law_39 := dk_seg dksL_law_38 24 rfl rfl
theorem dksL_law_40 : cL_law.data.toList.drop 1042 = dktL_law_40 := dk_seg dksL_law_39 24 rfl rfl
theorem dksL_law_41 : cL_law.data.toList.drop 1066 = dktL_law_41 := dk_seg dksL_law_40 24 rfl rfl
theorem dksL_law_42 : cL_law.data.toList.drop 1090 = dktL_law_42 := dk_seg dksL_law_41 24 rfl rfl
theorem dksL_law_43 : cL_law.data.toList.drop 1114 = dktL_law_43 := dk_seg dksL_law_42 24 rfl rfl
theorem dksL_law_44 : cL_law.data.toList.drop 1136 = dktL_law_44 := dk_seg dksL_law_43 22 rfl rfl
theorem dksL_law_45 : cL_law.data.toList.drop 1159 = dktL_law_45 := dk_seg dksL_law_44 23 rfl rfl
theorem dksL_law_46 : cL_law.data.toList.drop 1181 = dktL_law_46 := dk_seg dksL_law_45 22 rfl rfl
theorem dksL_law_47 : cL_law.data.toList.drop 1204 = dktL_law_47 := dk_seg dksL_law_46 23 rfl rfl
theorem dksL_law_48 : cL_law.data.toList.drop 1228 = dktL_law_48 := dk_seg dksL_law_47 24 rfl rfl
theorem dksL_law_49 : cL_law.data.toList.drop 1251 = dktL_law_49 := dk_seg dksL_law_48 23 rfl rfl
theorem dksL_law_50 : cL_law.data.toList.drop 1273 = dktL_law_50 := dk_seg dksL_law_49 22 rfl rfl
theorem dksL_law_51 : cL_law.data.toList.drop 1296 = dktL_law_51 := dk_seg dksL_law_50 23 rfl rfl
theorem dksL_law_52 : cL_law.data.toList.drop 1320 = dktL_law_52 := dk_seg dksL_law_51 24 rfl rfl
theorem dksL_law_53 : cL_law.data.toList.drop 1343 = dktL_law_53 := dk_seg dksL_law_52 23 rfl rfl
theorem dksL_law_54 : cL_law.data.toList.drop 1367 = dktL_law_54 := dk_seg dksL_law_53 24 rfl rfl
theorem dksL_law_55 : cL_law.data.toList.drop 1389 = dktL_law_55 := dk_seg dksL_law_54 22 rfl rfl
theorem dksL_law_56 : cL_law.data.toList.drop 1412 = dktL_law_56 := dk_seg dksL_law_55 23 rfl rfl
theorem dksL_law_57 : cL_law.data.toList.drop 1436 = dktL_law_57 := dk_seg dksL_law_56 24 rfl rfl
theorem dksL_law_58 : cL_law.data.toList.drop 1459 = dktL_law_58 := dk_seg dksL_law_57 23 rfl rfl
theorem dksL_law_59 : cL_law.data.toList.drop 1482 = dktL_law_59 := dk_seg dksL_law_58 23 rfl rfl
theorem dksL_law_60 : cL_law.data.toList.drop 1505 = dktL_law_60 := dk_seg dksL_law_59 23 rfl rfl
theorem dksL_law_61 : cL_law.data.toList.drop 1529 = dktL_law_61 := dk_seg dksL_law_60 24 rfl rfl
theorem dksL_law_62 : cL_law.data.toList.drop 1552 = dktL_law_62 := dk_seg dksL_law_61 23 rfl rfl
theorem dksL_law_63 : cL_law.data.toList.drop 1576 = dktL_law_63 := dk_seg dksL_law_62 24 rfl rfl
theorem dksL_law_64 : cL_law.data.toList.drop 1599 = dktL_law_64 := dk_seg dksL_law_63 23 rfl rfl
theorem dksL_law_65 : cL_law.data.toList.drop 1623 = dktL_law_65 := dk_seg dksL_law_64 24 rfl rfl
theorem dksL_law_66 : cL_law.data.toList.drop 1645 = dktL_law_66 := dk_seg dksL_law_65 22 rfl rfl
theorem dksL_law_67 : cL_law.data.toList.drop 1668 = dktL_law_67 := dk_seg dksL_law_66 23 rfl rfl
theorem dksL_law_68 : cL_law.data.toList.drop 1691 = dktL_law_68 := dk_seg dksL_law_67 23 rfl rfl
theorem dksL_law_69 : cL_law.data.toList.drop 1715 = dktL_law_69 := dk_seg dksL_law_68 24 rfl rfl
theorem dksL_law_70 : cL_law.data.toList.drop 1738 = dktL_law_70 := dk_seg dksL_law_69 23 rfl rfl
theorem dksL_law_71 : cL_law.data.toList.drop 1762 = dktL_law_71 := dk_seg dksL_law_70 24 rfl rfl
theorem dksL_law_72 : cL_law.data.toList.drop 1784 = dktL_law_72 := dk_seg dksL_law_71 22 rfl rfl
theorem dksL_law_73 : cL_law.data.toList.drop 1806 = dktL_law_73 := dk_seg dksL_law_72 22 rfl rfl
theorem dksL_law_74 : cL_law.data.toList.drop 1829 = dktL_law_74 := dk_seg dksL_law_73 23 rfl rfl
theorem dksL_law_75 : cL_law.data.toList.drop 1853 = dktL_law_75 := dk_seg dksL_law_74 24 rfl rfl
theorem dksL_law_76 : cL_law.data.toList.drop 1877 = dktL_law_76 := dk_seg dksL_law_75 24 rfl rfl
theorem dksL_law_77 : cL_law.data.toList.drop 1900 = dktL_law_77 := dk_seg dksL_law_76 23 rfl rfl
theorem dksL_law_78 : cL_law.data.toList.drop 1923 = dktL_law_78 := dk_seg dksL_law_77 23 rfl rfl
theorem dksL_law_79 : cL_law.data.toList.drop 1947 = dktL_law_79 := dk_seg dksL_law_78 24 rfl rfl
theorem dksL_law_80 : cL_law.data.toList.drop 1971 = dktL_law_80 := dk_seg dksL_law_79 24 rfl rfl
theorem dL_law_0 : decode cL_law 0 = .ok (.new 8, 3) := dk_187 0 8 (dk_at dksL_law_0 0 rfl rfl)
theorem dL_law_3 : decode cL_law 3 = .ok (.dup, 1) := dk_89 (dk_at dksL_law_0 3 rfl rfl)
theorem dL_law_4 : decode cL_law 4 = .ok (.invokespecial 102, 3) := dk_183 0 102 (dk_at dksL_law_0 4 rfl rfl)
theorem dL_law_7 : decode cL_law 7 = .ok (.astore_n 1, 1) := dk_76 (dk_at dksL_law_0 7 rfl rfl)
theorem dL_law_8 : decode cL_law 8 = .ok (.new 103, 3) := dk_187 0 103 (dk_at dksL_law_0 8 rfl rfl)
theorem dL_law_11 : decode cL_law 11 = .ok (.dup, 1) := dk_89 (dk_at dksL_law_0 11 rfl rfl)
theorem dL_law_12 : decode cL_law 12 = .ok (.invokespecial 105, 3) := dk_183 0 105 (dk_at dksL_law_0 12 rfl rfl)
theorem dL_law_15 : decode cL_law 15 = .ok (.astore_n 2, 1) := dk_77 (dk_at dksL_law_0 15 rfl rfl)
theorem dL_law_16 : decode cL_law 16 = .ok (.iconst 1, 1) := dk_4 (dk_at dksL_law_0 16 rfl rfl)
theorem dL_law_17 : decode cL_law 17 = .ok (.newarray .long, 2) := dk_188_11 (dk_at dksL_law_0 17 rfl rfl)
theorem dL_law_19 : decode cL_law 19 = .ok (.astore_n 3, 1) := dk_78 (dk_at dksL_law_0 19 rfl rfl)
theorem dL_law_20 : decode cL_law 20 = .ok (.iconst 0, 1) := dk_3 (dk_at dksL_law_0 20 rfl rfl)
theorem dL_law_21 : decode cL_law 21 = .ok (.istore 4, 2) := dk_54 4 (dk_at dksL_law_0 21 rfl rfl)
theorem dL_law_23 : decode cL_law 23 = .ok (.iload 4, 2) := dk_21 4 (dk_at dksL_law_1 0 rfl rfl)
theorem dL_law_25 : decode cL_law 25 = .ok (.aload_n 0, 1) := dk_42 (dk_at dksL_law_1 2 rfl rfl)
theorem dL_law_26 : decode cL_law 26 = .ok (.arraylength, 1) := dk_190 (dk_at dksL_law_1 3 rfl rfl)
theorem dL_law_27 : decode cL_law 27 = .ok (.iconst 5, 1) := dk_8 (dk_at dksL_law_1 4 rfl rfl)
theorem dL_law_28 : decode cL_law 28 = .ok (.isub, 1) := dk_100 (dk_at dksL_law_1 5 rfl rfl)
theorem dL_law_29 : decode cL_law 29 = .ok (.if_icmp .gt 1964, 3) := dk_163 7 172 (dk_at dksL_law_1 6 rfl rfl)
theorem dL_law_32 : decode cL_law 32 = .ok (.aload_n 0, 1) := dk_42 (dk_at dksL_law_1 9 rfl rfl)
theorem dL_law_33 : decode cL_law 33 = .ok (.iload 4, 2) := dk_21 4 (dk_at dksL_law_1 10 rfl rfl)
theorem dL_law_35 : decode cL_law 35 = .ok (.iaload, 1) := dk_46 (dk_at dksL_law_1 12 rfl rfl)
theorem dL_law_36 : decode cL_law 36 = .ok (.bipush 31, 2) := dk_16 31 (dk_at dksL_law_1 13 rfl rfl)
theorem dL_law_38 : decode cL_law 38 = .ok (.iand, 1) := dk_126 (dk_at dksL_law_1 15 rfl rfl)
theorem dL_law_39 : decode cL_law 39 = .ok (.tableswitch 1948 0 31 #[141, 154, 210, 290, 358, 426, 482, 574, 642, 710, 778, 846, 902, 965, 1021, 1089, 1145, 1237, 1293, 1349, 1362, 1418, 1502, 1558, 1614, 1670, 1726, 1770, 1826, 1851, 1892, 1935], 141) := by decide +kernel
theorem dL_law_180 : decode cL_law 180 = .ok (.aload_n 1, 1) := dk_43 (dk_at dksL_law_3 0 rfl rfl)
theorem dL_law_181 : decode cL_law 181 = .ok (.invokevirtual 106, 3) := dk_182 0 106 (dk_at dksL_law_3 1 rfl rfl)
theorem dL_law_184 : decode cL_law 184 = .ok (.aload_n 2, 1) := dk_44 (dk_at dksL_law_3 4 rfl rfl)
theorem dL_law_185 : decode cL_law 185 = .ok (.invokevirtual 109, 3) := dk_182 0 109 (dk_at dksL_law_3 5 rfl rfl)
theorem dL_law_188 : decode cL_law 188 = .ok (.if_icmp .eq 1799, 3) := dk_159 7 7 (dk_at dksL_law_3 8 rfl rfl)
theorem dL_law_191 : decode cL_law 191 = .ok (.iconst 0, 1) := dk_3 (dk_at dksL_law_3 11 rfl rfl)
theorem dL_law_192 : decode cL_law 192 = .ok (.ireturn, 1) := dk_172 (dk_at dksL_law_3 12 rfl rfl)
theorem dL_law_193 : decode cL_law 193 = .ok (.aload_n 1, 1) := dk_43 (dk_at dksL_law_3 13 rfl rfl)
theorem dL_law_194 : decode cL_law 194 = .ok (.aload_n 0, 1) := dk_42 (dk_at dksL_law_3 14 rfl rfl)
theorem dL_law_195 : decode cL_law 195 = .ok (.iload 4, 2) := dk_21 4 (dk_at dksL_law_3 15 rfl rfl)
theorem dL_law_197 : decode cL_law 197 = .ok (.iconst 1, 1) := dk_4 (dk_at dksL_law_3 17 rfl rfl)
theorem dL_law_198 : decode cL_law 198 = .ok (.iadd, 1) := dk_96 (dk_at dksL_law_3 18 rfl rfl)
theorem dL_law_199 : decode cL_law 199 = .ok (.iaload, 1) := dk_46 (dk_at dksL_law_3 19 rfl rfl)
theorem dL_law_200 : decode cL_law 200 = .ok (.aload_n 3, 1) := dk_45 (dk_at dksL_law_3 20 rfl rfl)
theorem dL_law_201 : decode cL_law 201 = .ok (.invokestatic 110, 3) := dk_184 0 110 (dk_at dksL_law_3 21 rfl rfl)
theorem dL_law_204 : decode cL_law 204 = .ok (.istore 5, 2) := dk_54 5 (dk_at dksL_law_4 0 rfl rfl)
theorem dL_law_206 : decode cL_law 206 = .ok (.aload_n 2, 1) := dk_44 (dk_at dksL_law_4 2 rfl rfl)
theorem dL_law_207 : decode cL_law 207 = .ok (.aload_n 0, 1) := dk_42 (dk_at dksL_law_4 3 rfl rfl)
theorem dL_law_208 : decode cL_law 208 = .ok (.iload 4, 2) := dk_21 4 (dk_at dksL_law_4 4 rfl rfl)
theorem dL_law_210 : decode cL_law 210 = .ok (.iconst 1, 1) := dk_4 (dk_at dksL_law_4 6 rfl rfl)
theorem dL_law_211 : decode cL_law 211 = .ok (.iadd, 1) := dk_96 (dk_at dksL_law_4 7 rfl rfl)
theorem dL_law_212 : decode cL_law 212 = .ok (.iaload, 1) := dk_46 (dk_at dksL_law_4 8 rfl rfl)
theorem dL_law_213 : decode cL_law 213 = .ok (.invokevirtual 115, 3) := dk_182 0 115 (dk_at dksL_law_4 9 rfl rfl)
theorem dL_law_216 : decode cL_law 216 = .ok (.istore 6, 2) := dk_54 6 (dk_at dksL_law_4 12 rfl rfl)
theorem dL_law_218 : decode cL_law 218 = .ok (.aload_n 2, 1) := dk_44 (dk_at dksL_law_4 14 rfl rfl)
theorem dL_law_219 : decode cL_law 219 = .ok (.invokevirtual 116, 3) := dk_182 0 116 (dk_at dksL_law_4 15 rfl rfl)
theorem dL_law_222 : decode cL_law 222 = .ok (.iload 5, 2) := dk_21 5 (dk_at dksL_law_4 18 rfl rfl)
theorem dL_law_224 : decode cL_law 224 = .ok (.if_icmp .eq 5, 3) := dk_159 0 5 (dk_at dksL_law_4 20 rfl rfl)
theorem dL_law_227 : decode cL_law 227 = .ok (.iconst 0, 1) := dk_3 (dk_at dksL_law_4 23 rfl rfl)
theorem dL_law_228 : decode cL_law 228 = .ok (.ireturn, 1) := dk_172 (dk_at dksL_law_5 0 rfl rfl)
theorem dL_law_229 : decode cL_law 229 = .ok (.iload 5, 2) := dk_21 5 (dk_at dksL_law_5 1 rfl rfl)
theorem dL_law_231 : decode cL_law 231 = .ok (.ifCond .ne 15, 3) := dk_154 0 15 (dk_at dksL_law_5 3 rfl rfl)
theorem dL_law_234 : decode cL_law 234 = .ok (.aload_n 3, 1) := dk_45 (dk_at dksL_law_5 6 rfl rfl)
theorem dL_law_235 : decode cL_law 235 = .ok (.iconst 0, 1) := dk_3 (dk_at dksL_law_5 7 rfl rfl)
theorem dL_law_236 : decode cL_law 236 = .ok (.laload, 1) := dk_47 (dk_at dksL_law_5 8 rfl rfl)
theorem dL_law_237 : decode cL_law 237 = .ok (.iload 6, 2) := dk_21 6 (dk_at dksL_law_5 9 rfl rfl)
theorem dL_law_239 : decode cL_law 239 = .ok (.i2l, 1) := dk_133 (dk_at dksL_law_5 11 rfl rfl)
theorem dL_law_240 : decode cL_law 240 = .ok (.lcmp, 1) := dk_148 (dk_at dksL_law_5 12 rfl rfl)
theorem dL_law_241 : decode cL_law 241 = .ok (.ifCond .eq 5, 3) := dk_153 0 5 (dk_at dksL_law_5 13 rfl rfl)
theorem dL_law_244 : decode cL_law 244 = .ok (.iconst 0, 1) := dk_3 (dk_at dksL_law_5 16 rfl rfl)
theorem dL_law_245 : decode cL_law 245 = .ok (.ireturn, 1) := dk_172 (dk_at dksL_law_5 17 rfl rfl)
theorem dL_law_246 : decode cL_law 246 = .ok (.goto 1741, 3) := dk_167 6 205 (dk_at dksL_law_5 18 rfl rfl)
theorem dL_law_249 : decode cL_law 249 = .ok (.aload_n 1, 1) := dk_43 (dk_at dksL_law_5 21 rfl rfl)
theorem dL_law_250 : decode cL_law 250 = .ok (.aload_n 0, 1) := dk_42 (dk_at dksL_law_5 22 rfl rfl)
theorem dL_law_251 : decode cL_law 251 = .ok (.iload 4, 2) := dk_21 4 (dk_at dksL_law_6 0 rfl rfl)
theorem dL_law_253 : decode cL_law 253 = .ok (.iconst 1, 1) := dk_4 (dk_at dksL_law_6 2 rfl rfl)
theorem dL_law_254 : decode cL_law 254 = .ok (.iadd, 1) := dk_96 (dk_at dksL_law_6 3 rfl rfl)
theorem dL_law_255 : decode cL_law 255 = .ok (.iaload, 1) := dk_46 (dk_at dksL_law_6 4 rfl rfl)
theorem dL_law_256 : decode cL_law 256 = .ok (.aload_n 0, 1) := dk_42 (dk_at dksL_law_6 5 rfl rfl)
theorem dL_law_257 : decode cL_law 257 = .ok (.iload 4, 2) := dk_21 4 (dk_at dksL_law_6 6 rfl rfl)
theorem dL_law_259 : decode cL_law 259 = .ok (.iconst 2, 1) := dk_5 (dk_at dksL_law_6 8 rfl rfl)
theorem dL_law_260 : decode cL_law 260 = .ok (.iadd, 1) := dk_96 (dk_at dksL_law_6 9 rfl rfl)
theorem dL_law_261 : decode cL_law 261 = .ok (.iaload, 1) := dk_46 (dk_at dksL_law_6 10 rfl rfl)
theorem dL_law_262 : decode cL_law 262 = .ok (.aload_n 0, 1) := dk_42 (dk_at dksL_law_6 11 rfl rfl)
theorem dL_law_263 : decode cL_law 263 = .ok (.iload 4, 2) := dk_21 4 (dk_at dksL_law_6 12 rfl rfl)
theorem dL_law_265 : decode cL_law 265 = .ok (.iconst 3, 1) := dk_6 (dk_at dksL_law_6 14 rfl rfl)
theorem dL_law_266 : decode cL_law 266 = .ok (.iadd, 1) := dk_96 (dk_at dksL_law_6 15 rfl rfl)
theorem dL_law_267 : decode cL_law 267 = .ok (.iaload, 1) := dk_46 (dk_at dksL_law_6 16 rfl rfl)
theorem dL_law_268 : decode cL_law 268 = .ok (.aload_n 3, 1) := dk_45 (dk_at dksL_law_6 17 rfl rfl)
theorem dL_law_269 : decode cL_law 269 = .ok (.invokestatic 119, 3) := dk_184 0 119 (dk_at dksL_law_6 18 rfl rfl)
theorem dL_law_272 : decode cL_law 272 = .ok (.istore 5, 2) := dk_54 5 (dk_at dksL_law_6 21 rfl rfl)
theorem dL_law_274 : decode cL_law 274 = .ok (.aload_n 2, 1) := dk_44 (dk_at dksL_law_6 23 rfl rfl)
theorem dL_law_275 : decode cL_law 275 = .ok (.aload_n 0, 1) := dk_42 (dk_at dksL_law_7 0 rfl rfl)
theorem dL_law_276 : decode cL_law 276 = .ok (.iload 4, 2) := dk_21 4 (dk_at dksL_law_7 1 rfl rfl)
theorem dL_law_278 : decode cL_law 278 = .ok (.iconst 1, 1) := dk_4 (dk_at dksL_law_7 3 rfl rfl)
theorem dL_law_279 : decode cL_law 279 = .ok (.iadd, 1) := dk_96 (dk_at dksL_law_7 4 rfl rfl)
theorem dL_law_280 : decode cL_law 280 = .ok (.iaload, 1) := dk_46 (dk_at dksL_law_7 5 rfl rfl)
theorem dL_law_281 : decode cL_law 281 = .ok (.aload_n 0, 1) := dk_42 (dk_at dksL_law_7 6 rfl rfl)
theorem dL_law_282 : decode cL_law 282 = .ok (.iload 4, 2) := dk_21 4 (dk_at dksL_law_7 7 rfl rfl)
theorem dL_law_284 : decode cL_law 284 = .ok (.iconst 2, 1) := dk_5 (dk_at dksL_law_7 9 rfl rfl)
theorem dL_law_285 : decode cL_law 285 = .ok (.iadd, 1) := dk_96 (dk_at dksL_law_7 10 rfl rfl)
theorem dL_law_286 : decode cL_law 286 = .ok (.iaload, 1) := dk_46 (dk_at dksL_law_7 11 rfl rfl)
theorem dL_law_287 : decode cL_law 287 = .ok (.aload_n 0, 1) := dk_42 (dk_at dksL_law_7 12 rfl rfl)
theorem dL_law_288 : decode cL_law 288 = .ok (.iload 4, 2) := dk_21 4 (dk_at dksL_law_7 13 rfl rfl)
theorem dL_law_290 : decode cL_law 290 = .ok (.iconst 3, 1) := dk_6 (dk_at dksL_law_7 15 rfl rfl)
theorem dL_law_291 : decode cL_law 291 = .ok (.iadd, 1) := dk_96 (dk_at dksL_law_7 16 rfl rfl)
theorem dL_law_292 : decode cL_law 292 = .ok (.iaload, 1) := dk_46 (dk_at dksL_law_7 17 rfl rfl)
theorem dL_law_293 : decode cL_law 293 = .ok (.invokevirtual 122, 3) := dk_182 0 122 (dk_at dksL_law_7 18 rfl rfl)
theorem dL_law_296 : decode cL_law 296 = .ok (.istore 6, 2) := dk_54 6 (dk_at dksL_law_7 21 rfl rfl)
theorem dL_law_298 : decode cL_law 298 = .ok (.aload_n 2, 1) := dk_44 (dk_at dksL_law_7 23 rfl rfl)
theorem dL_law_299 : decode cL_law 299 = .ok (.invokevirtual 116, 3) := dk_182 0 116 (dk_at dksL_law_8 0 rfl rfl)
theorem dL_law_302 : decode cL_law 302 = .ok (.iload 5, 2) := dk_21 5 (dk_at dksL_law_8 3 rfl rfl)
theorem dL_law_304 : decode cL_law 304 = .ok (.if_icmp .eq 5, 3) := dk_159 0 5 (dk_at dksL_law_8 5 rfl rfl)
theorem dL_law_307 : decode cL_law 307 = .ok (.iconst 0, 1) := dk_3 (dk_at dksL_law_8 8 rfl rfl)
theorem dL_law_308 : decode cL_law 308 = .ok (.ireturn, 1) := dk_172 (dk_at dksL_law_8 9 rfl rfl)
theorem dL_law_309 : decode cL_law 309 = .ok (.iload 5, 2) := dk_21 5 (dk_at dksL_law_8 10 rfl rfl)
theorem dL_law_311 : decode cL_law 311 = .ok (.ifCond .ne 15, 3) := dk_154 0 15 (dk_at dksL_law_8 12 rfl rfl)
theorem dL_law_314 : decode cL_law 314 = .ok (.aload_n 3, 1) := dk_45 (dk_at dksL_law_8 15 rfl rfl)
theorem dL_law_315 : decode cL_law 315 = .ok (.iconst 0, 1) := dk_3 (dk_at dksL_law_8 16 rfl rfl)
theorem dL_law_316 : decode cL_law 316 = .ok (.laload, 1) := dk_47 (dk_at dksL_law_8 17 rfl rfl)
theorem dL_law_317 : decode cL_law 317 = .ok (.iload 6, 2) := dk_21 6 (dk_at dksL_law_8 18 rfl rfl)
theorem dL_law_319 : decode cL_law 319 = .ok (.i2l, 1) := dk_133 (dk_at dksL_law_8 20 rfl rfl)
theorem dL_law_320 : decode cL_law 320 = .ok (.lcmp, 1) := dk_148 (dk_at dksL_law_8 21 rfl rfl)
theorem dL_law_321 : decode cL_law 321 = .ok (.ifCond .eq 5, 3) := dk_153 0 5 (dk_at dksL_law_9 0 rfl rfl)
theorem dL_law_324 : decode cL_law 324 = .ok (.iconst 0, 1) := dk_3 (dk_at dksL_law_9 3 rfl rfl)
theorem dL_law_325 : decode cL_law 325 = .ok (.ireturn, 1) := dk_172 (dk_at dksL_law_9 4 rfl rfl)
theorem dL_law_326 : decode cL_law 326 = .ok (.goto 1661, 3) := dk_167 6 125 (dk_at dksL_law_9 5 rfl rfl)
theorem dL_law_329 : decode cL_law 329 = .ok (.aload_n 1, 1) := dk_43 (dk_at dksL_law_9 8 rfl rfl)
theorem dL_law_330 : decode cL_law 330 = .ok (.aload_n 0, 1) := dk_42 (dk_at dksL_law_9 9 rfl rfl)
theorem dL_law_331 : decode cL_law 331 = .ok (.iload 4, 2) := dk_21 4 (dk_at dksL_law_9 10 rfl rfl)
theorem dL_law_333 : decode cL_law 333 = .ok (.iconst 1, 1) := dk_4 (dk_at dksL_law_9 12 rfl rfl)
theorem dL_law_334 : decode cL_law 334 = .ok (.iadd, 1) := dk_96 (dk_at dksL_law_9 13 rfl rfl)
theorem dL_law_335 : decode cL_law 335 = .ok (.iaload, 1) := dk_46 (dk_at dksL_law_9 14 rfl rfl)
theorem dL_law_336 : decode cL_law 336 = .ok (.aload_n 0, 1) := dk_42 (dk_at dksL_law_9 15 rfl rfl)
theorem dL_law_337 : decode cL_law 337 = .ok (.iload 4, 2) := dk_21 4 (dk_at dksL_law_9 16 rfl rfl)
theorem dL_law_339 : decode cL_law 339 = .ok (.iconst 2, 1) := dk_5 (dk_at dksL_law_9 18 rfl rfl)
theorem dL_law_340 : decode cL_law 340 = .ok (.iadd, 1) := dk_96 (dk_at dksL_law_9 19 rfl rfl)
theorem dL_law_341 : decode cL_law 341 = .ok (.iaload, 1) := dk_46 (dk_at dksL_law_9 20 rfl rfl)
theorem dL_law_342 : decode cL_law 342 = .ok (.aload_n 3, 1) := dk_45 (dk_at dksL_law_9 21 rfl rfl)
theorem dL_law_343 : decode cL_law 343 = .ok (.invokestatic 123, 3) := dk_184 0 123 (dk_at dksL_law_10 0 rfl rfl)
theorem dL_law_346 : decode cL_law 346 = .ok (.istore 5, 2) := dk_54 5 (dk_at dksL_law_10 3 rfl rfl)
theorem dL_law_348 : decode cL_law 348 = .ok (.aload_n 2, 1) := dk_44 (dk_at dksL_law_10 5 rfl rfl)
theorem dL_law_349 : decode cL_law 349 = .ok (.aload_n 0, 1) := dk_42 (dk_at dksL_law_10 6 rfl rfl)
theorem dL_law_350 : decode cL_law 350 = .ok (.iload 4, 2) := dk_21 4 (dk_at dksL_law_10 7 rfl rfl)
theorem dL_law_352 : decode cL_law 352 = .ok (.iconst 1, 1) := dk_4 (dk_at dksL_law_10 9 rfl rfl)
theorem dL_law_353 : decode cL_law 353 = .ok (.iadd, 1) := dk_96 (dk_at dksL_law_10 10 rfl rfl)
theorem dL_law_354 : decode cL_law 354 = .ok (.iaload, 1) := dk_46 (dk_at dksL_law_10 11 rfl rfl)
theorem dL_law_355 : decode cL_law 355 = .ok (.aload_n 0, 1) := dk_42 (dk_at dksL_law_10 12 rfl rfl)
theorem dL_law_356 : decode cL_law 356 = .ok (.iload 4, 2) := dk_21 4 (dk_at dksL_law_10 13 rfl rfl)
theorem dL_law_358 : decode cL_law 358 = .ok (.iconst 2, 1) := dk_5 (dk_at dksL_law_10 15 rfl rfl)
theorem dL_law_359 : decode cL_law 359 = .ok (.iadd, 1) := dk_96 (dk_at dksL_law_10 16 rfl rfl)
theorem dL_law_360 : decode cL_law 360 = .ok (.iaload, 1) := dk_46 (dk_at dksL_law_10 17 rfl rfl)
theorem dL_law_361 : decode cL_law 361 = .ok (.invokevirtual 126, 3) := dk_182 0 126 (dk_at dksL_law_10 18 rfl rfl)
theorem dL_law_364 : decode cL_law 364 = .ok (.istore 6, 2) := dk_54 6 (dk_at dksL_law_10 21 rfl rfl)
theorem dL_law_366 : decode cL_law 366 = .ok (.aload_n 2, 1) := dk_44 (dk_at dksL_law_10 23 rfl rfl)
theorem dL_law_367 : decode cL_law 367 = .ok (.invokevirtual 116, 3) := dk_182 0 116 (dk_at dksL_law_11 0 rfl rfl)
theorem dL_law_370 : decode cL_law 370 = .ok (.iload 5, 2) := dk_21 5 (dk_at dksL_law_11 3 rfl rfl)
theorem dL_law_372 : decode cL_law 372 = .ok (.if_icmp .eq 5, 3) := dk_159 0 5 (dk_at dksL_law_11 5 rfl rfl)
theorem dL_law_375 : decode cL_law 375 = .ok (.iconst 0, 1) := dk_3 (dk_at dksL_law_11 8 rfl rfl)
theorem dL_law_376 : decode cL_law 376 = .ok (.ireturn, 1) := dk_172 (dk_at dksL_law_11 9 rfl rfl)
theorem dL_law_377 : decode cL_law 377 = .ok (.iload 5, 2) := dk_21 5 (dk_at dksL_law_11 10 rfl rfl)
theorem dL_law_379 : decode cL_law 379 = .ok (.ifCond .ne 15, 3) := dk_154 0 15 (dk_at dksL_law_11 12 rfl rfl)
theorem dL_law_382 : decode cL_law 382 = .ok (.aload_n 3, 1) := dk_45 (dk_at dksL_law_11 15 rfl rfl)
theorem dL_law_383 : decode cL_law 383 = .ok (.iconst 0, 1) := dk_3 (dk_at dksL_law_11 16 rfl rfl)
theorem dL_law_384 : decode cL_law 384 = .ok (.laload, 1) := dk_47 (dk_at dksL_law_11 17 rfl rfl)
theorem dL_law_385 : decode cL_law 385 = .ok (.iload 6, 2) := dk_21 6 (dk_at dksL_law_11 18 rfl rfl)
theorem dL_law_387 : decode cL_law 387 = .ok (.i2l, 1) := dk_133 (dk_at dksL_law_11 20 rfl rfl)
theorem dL_law_388 : decode cL_law 388 = .ok (.lcmp, 1) := dk_148 (dk_at dksL_law_11 21 rfl rfl)
theorem dL_law_389 : decode cL_law 389 = .ok (.ifCond .eq 5, 3) := dk_153 0 5 (dk_at dksL_law_12 0 rfl rfl)
theorem dL_law_392 : decode cL_law 392 = .ok (.iconst 0, 1) := dk_3 (dk_at dksL_law_12 3 rfl rfl)
theorem dL_law_393 : decode cL_law 393 = .ok (.ireturn, 1) := dk_172 (dk_at dksL_law_12 4 rfl rfl)
theorem dL_law_394 : decode cL_law 394 = .ok (.goto 1593, 3) := dk_167 6 57 (dk_at dksL_law_12 5 rfl rfl)
theorem dL_law_397 : decode cL_law 397 = .ok (.aload_n 1, 1) := dk_43 (dk_at dksL_law_12 8 rfl rfl)
theorem dL_law_398 : decode cL_law 398 = .ok (.aload_n 0, 1) := dk_42 (dk_at dksL_law_12 9 rfl rfl)
theorem dL_law_399 : decode cL_law 399 = .ok (.iload 4, 2) := dk_21 4 (dk_at dksL_law_12 10 rfl rfl)
theorem dL_law_401 : decode cL_law 401 = .ok (.iconst 1, 1) := dk_4 (dk_at dksL_law_12 12 rfl rfl)
theorem dL_law_402 : decode cL_law 402 = .ok (.iadd, 1) := dk_96 (dk_at dksL_law_12 13 rfl rfl)
theorem dL_law_403 : decode cL_law 403 = .ok (.iaload, 1) := dk_46 (dk_at dksL_law_12 14 rfl rfl)
theorem dL_law_404 : decode cL_law 404 = .ok (.aload_n 0, 1) := dk_42 (dk_at dksL_law_12 15 rfl rfl)
theorem dL_law_405 : decode cL_law 405 = .ok (.iload 4, 2) := dk_21 4 (dk_at dksL_law_12 16 rfl rfl)
theorem dL_law_407 : decode cL_law 407 = .ok (.iconst 2, 1) := dk_5 (dk_at dksL_law_12 18 rfl rfl)
theorem dL_law_408 : decode cL_law 408 = .ok (.iadd, 1) := dk_96 (dk_at dksL_law_12 19 rfl rfl)
theorem dL_law_409 : decode cL_law 409 = .ok (.iaload, 1) := dk_46 (dk_at dksL_law_12 20 rfl rfl)
theorem dL_law_410 : decode cL_law 410 = .ok (.aload_n 3, 1) := dk_45 (dk_at dksL_law_12 21 rfl rfl)
theorem dL_law_411 : decode cL_law 411 = .ok (.invokestatic 127, 3) := dk_184 0 127 (dk_at dksL_law_13 0 rfl rfl)
theorem dL_law_414 : decode cL_law 414 = .ok (.istore 5, 2) := dk_54 5 (dk_at dksL_law_13 3 rfl rfl)
theorem dL_law_416 : decode cL_law 416 = .ok (.aload_n 2, 1) := dk_44 (dk_at dksL_law_13 5 rfl rfl)
theorem dL_law_417 : decode cL_law 417 = .ok (.aload_n 0, 1) := dk_42 (dk_at dksL_law_13 6 rfl rfl)
theorem dL_law_418 : decode cL_law 418 = .ok (.iload 4, 2) := dk_21 4 (dk_at dksL_law_13 7 rfl rfl)
theorem dL_law_420 : decode cL_law 420 = .ok (.iconst 1, 1) := dk_4 (dk_at dksL_law_13 9 rfl rfl)
theorem dL_law_421 : decode cL_law 421 = .ok (.iadd, 1) := dk_96 (dk_at dksL_law_13 10 rfl rfl)
theorem dL_law_422 : decode cL_law 422 = .ok (.iaload, 1) := dk_46 (dk_at dksL_law_13 11 rfl rfl)
theorem dL_law_423 : decode cL_law 423 = .ok (.aload_n 0, 1) := dk_42 (dk_at dksL_law_13 12 rfl rfl)
theorem dL_law_424 : decode cL_law 424 = .ok (.iload 4, 2) := dk_21 4 (dk_at dksL_law_13 13 rfl rfl)
theorem dL_law_426 : decode cL_law 426 = .ok (.iconst 2, 1) := dk_5 (dk_at dksL_law_13 15 rfl rfl)
theorem dL_law_427 : decode cL_law 427 = .ok (.iadd, 1) := dk_96 (dk_at dksL_law_13 16 rfl rfl)
theorem dL_law_428 : decode cL_law 428 = .ok (.iaload, 1) := dk_46 (dk_at dksL_law_13 17 rfl rfl)
theorem dL_law_429 : decode cL_law 429 = .ok (.invokevirtual 129, 3) := dk_182 0 129 (dk_at dksL_law_13 18 rfl rfl)
theorem dL_law_432 : decode cL_law 432 = .ok (.istore 6, 2) := dk_54 6 (dk_at dksL_law_13 21 rfl rfl)
theorem dL_law_434 : decode cL_law 434 = .ok (.aload_n 2, 1) := dk_44 (dk_at dksL_law_13 23 rfl rfl)
theorem dL_law_435 : decode cL_law 435 = .ok (.invokevirtual 116, 3) := dk_182 0 116 (dk_at dksL_law_14 0 rfl rfl)
theorem dL_law_438 : decode cL_law 438 = .ok (.iload 5, 2) := dk_21 5 (dk_at dksL_law_14 3 rfl rfl)
theorem dL_law_440 : decode cL_law 440 = .ok (.if_icmp .eq 5, 3) := dk_159 0 5 (dk_at dksL_law_14 5 rfl rfl)
theorem dL_law_443 : decode cL_law 443 = .ok (.iconst 0, 1) := dk_3 (dk_at dksL_law_14 8 rfl rfl)
theorem dL_law_444 : decode cL_law 444 = .ok (.ireturn, 1) := dk_172 (dk_at dksL_law_14 9 rfl rfl)
theorem dL_law_445 : decode cL_law 445 = .ok (.iload 5, 2) := dk_21 5 (dk_at dksL_law_14 10 rfl rfl)
theorem dL_law_447 : decode cL_law 447 = .ok (.ifCond .ne 15, 3) := dk_154 0 15 (dk_at dksL_law_14 12 rfl rfl)
theorem dL_law_450 : decode cL_law 450 = .ok (.aload_n 3, 1) := dk_45 (dk_at dksL_law_14 15 rfl rfl)
theorem dL_law_451 : decode cL_law 451 = .ok (.iconst 0, 1) := dk_3 (dk_at dksL_law_14 16 rfl rfl)
theorem dL_law_452 : decode cL_law 452 = .ok (.laload, 1) := dk_47 (dk_at dksL_law_14 17 rfl rfl)
theorem dL_law_453 : decode cL_law 453 = .ok (.iload 6, 2) := dk_21 6 (dk_at dksL_law_14 18 rfl rfl)
theorem dL_law_455 : decode cL_law 455 = .ok (.i2l, 1) := dk_133 (dk_at dksL_law_14 20 rfl rfl)
theorem dL_law_456 : decode cL_law 456 = .ok (.lcmp, 1) := dk_148 (dk_at dksL_law_14 21 rfl rfl)
theorem dL_law_457 : decode cL_law 457 = .ok (.ifCond .eq 5, 3) := dk_153 0 5 (dk_at dksL_law_15 0 rfl rfl)
theorem dL_law_460 : decode cL_law 460 = .ok (.iconst 0, 1) := dk_3 (dk_at dksL_law_15 3 rfl rfl)
theorem dL_law_461 : decode cL_law 461 = .ok (.ireturn, 1) := dk_172 (dk_at dksL_law_15 4 rfl rfl)
theorem dL_law_462 : decode cL_law 462 = .ok (.goto 1525, 3) := dk_167 5 245 (dk_at dksL_law_15 5 rfl rfl)
theorem dL_law_465 : decode cL_law 465 = .ok (.aload_n 1, 1) := dk_43 (dk_at dksL_law_15 8 rfl rfl)
theorem dL_law_466 : decode cL_law 466 = .ok (.aload_n 0, 1) := dk_42 (dk_at dksL_law_15 9 rfl rfl)
theorem dL_law_467 : decode cL_law 467 = .ok (.iload 4, 2) := dk_21 4 (dk_at dksL_law_15 10 rfl rfl)
theorem dL_law_469 : decode cL_law 469 = .ok (.iconst 1, 1) := dk_4 (dk_at dksL_law_15 12 rfl rfl)
theorem dL_law_470 : decode cL_law 470 = .ok (.iadd, 1) := dk_96 (dk_at dksL_law_15 13 rfl rfl)
theorem dL_law_471 : decode cL_law 471 = .ok (.iaload, 1) := dk_46 (dk_at dksL_law_15 14 rfl rfl)
theorem dL_law_472 : decode cL_law 472 = .ok (.aload_n 3, 1) := dk_45 (dk_at dksL_law_15 15 rfl rfl)
theorem dL_law_473 : decode cL_law 473 = .ok (.invokestatic 130, 3) := dk_184 0 130 (dk_at dksL_law_15 16 rfl rfl)
theorem dL_law_476 : decode cL_law 476 = .ok (.istore 5, 2) := dk_54 5 (dk_at dksL_law_15 19 rfl rfl)
theorem dL_law_478 : decode cL_law 478 = .ok (.aload_n 2, 1) := dk_44 (dk_at dksL_law_15 21 rfl rfl)
theorem dL_law_479 : decode cL_law 479 = .ok (.aload_n 0, 1) := dk_42 (dk_at dksL_law_15 22 rfl rfl)
theorem dL_law_480 : decode cL_law 480 = .ok (.iload 4, 2) := dk_21 4 (dk_at dksL_law_16 0 rfl rfl)
theorem dL_law_482 : decode cL_law 482 = .ok (.iconst 1, 1) := dk_4 (dk_at dksL_law_16 2 rfl rfl)
theorem dL_law_483 : decode cL_law 483 = .ok (.iadd, 1) := dk_96 (dk_at dksL_law_16 3 rfl rfl)
theorem dL_law_484 : decode cL_law 484 = .ok (.iaload, 1) := dk_46 (dk_at dksL_law_16 4 rfl rfl)
theorem dL_law_485 : decode cL_law 485 = .ok (.invokevirtual 132, 3) := dk_182 0 132 (dk_at dksL_law_16 5 rfl rfl)
theorem dL_law_488 : decode cL_law 488 = .ok (.istore 6, 2) := dk_54 6 (dk_at dksL_law_16 8 rfl rfl)
theorem dL_law_490 : decode cL_law 490 = .ok (.aload_n 2, 1) := dk_44 (dk_at dksL_law_16 10 rfl rfl)
theorem dL_law_491 : decode cL_law 491 = .ok (.invokevirtual 116, 3) := dk_182 0 116 (dk_at dksL_law_16 11 rfl rfl)
theorem dL_law_494 : decode cL_law 494 = .ok (.iload 5, 2) := dk_21 5 (dk_at dksL_law_16 14 rfl rfl)
theorem dL_law_496 : decode cL_law 496 = .ok (.if_icmp .eq 5, 3) := dk_159 0 5 (dk_at dksL_law_16 16 rfl rfl)
theorem dL_law_499 : decode cL_law 499 = .ok (.iconst 0, 1) := dk_3 (dk_at dksL_law_16 19 rfl rfl)
theorem dL_law_500 : decode cL_law 500 = .ok (.ireturn, 1) := dk_172 (dk_at dksL_law_16 20 rfl rfl)
theorem dL_law_501 : decode cL_law 501 = .ok (.iload 5, 2) := dk_21 5 (dk_at dksL_law_16 21 rfl rfl)
theorem dL_law_503 : decode cL_law 503 = .ok (.ifCond .ne 15, 3) := dk_154 0 15 (dk_at dksL_law_17 0 rfl rfl)
theorem dL_law_506 : decode cL_law 506 = .ok (.aload_n 3, 1) := dk_45 (dk_at dksL_law_17 3 rfl rfl)
theorem dL_law_507 : decode cL_law 507 = .ok (.iconst 0, 1) := dk_3 (dk_at dksL_law_17 4 rfl rfl)
theorem dL_law_508 : decode cL_law 508 = .ok (.laload, 1) := dk_47 (dk_at dksL_law_17 5 rfl rfl)
theorem dL_law_509 : decode cL_law 509 = .ok (.iload 6, 2) := dk_21 6 (dk_at dksL_law_17 6 rfl rfl)
theorem dL_law_511 : decode cL_law 511 = .ok (.i2l, 1) := dk_133 (dk_at dksL_law_17 8 rfl rfl)
theorem dL_law_512 : decode cL_law 512 = .ok (.lcmp, 1) := dk_148 (dk_at dksL_law_17 9 rfl rfl)
theorem dL_law_513 : decode cL_law 513 = .ok (.ifCond .eq 5, 3) := dk_153 0 5 (dk_at dksL_law_17 10 rfl rfl)
theorem dL_law_516 : decode cL_law 516 = .ok (.iconst 0, 1) := dk_3 (dk_at dksL_law_17 13 rfl rfl)
theorem dL_law_517 : decode cL_law 517 = .ok (.ireturn, 1) := dk_172 (dk_at dksL_law_17 14 rfl rfl)
theorem dL_law_518 : decode cL_law 518 = .ok (.goto 1469, 3) := dk_167 5 189 (dk_at dksL_law_17 15 rfl rfl)
theorem dL_law_521 : decode cL_law 521 = .ok (.aload_n 1, 1) := dk_43 (dk_at dksL_law_17 18 rfl rfl)
theorem dL_law_522 : decode cL_law 522 = .ok (.aload_n 0, 1) := dk_42 (dk_at dksL_law_17 19 rfl rfl)
theorem dL_law_523 : decode cL_law 523 = .ok (.iload 4, 2) := dk_21 4 (dk_at dksL_law_17 20 rfl rfl)
theorem dL_law_525 : decode cL_law 525 = .ok (.iconst 1, 1) := dk_4 (dk_at dksL_law_17 22 rfl rfl)
theorem dL_law_526 : decode cL_law 526 = .ok (.iadd, 1) := dk_96 (dk_at dksL_law_17 23 rfl rfl)
theorem dL_law_527 : decode cL_law 527 = .ok (.iaload, 1) := dk_46 (dk_at dksL_law_18 0 rfl rfl)
theorem dL_law_528 : decode cL_law 528 = .ok (.aload_n 0, 1) := dk_42 (dk_at dksL_law_18 1 rfl rfl)
theorem dL_law_529 : decode cL_law 529 = .ok (.iload 4, 2) := dk_21 4 (dk_at dksL_law_18 2 rfl rfl)
theorem dL_law_531 : decode cL_law 531 = .ok (.iconst 2, 1) := dk_5 (dk_at dksL_law_18 4 rfl rfl)
theorem dL_law_532 : decode cL_law 532 = .ok (.iadd, 1) := dk_96 (dk_at dksL_law_18 5 rfl rfl)
theorem dL_law_533 : decode cL_law 533 = .ok (.iaload, 1) := dk_46 (dk_at dksL_law_18 6 rfl rfl)
theorem dL_law_534 : decode cL_law 534 = .ok (.aload_n 0, 1) := dk_42 (dk_at dksL_law_18 7 rfl rfl)
theorem dL_law_535 : decode cL_law 535 = .ok (.iload 4, 2) := dk_21 4 (dk_at dksL_law_18 8 rfl rfl)
theorem dL_law_537 : decode cL_law 537 = .ok (.iconst 3, 1) := dk_6 (dk_at dksL_law_18 10 rfl rfl)
theorem dL_law_538 : decode cL_law 538 = .ok (.iadd, 1) := dk_96 (dk_at dksL_law_18 11 rfl rfl)
theorem dL_law_539 : decode cL_law 539 = .ok (.iaload, 1) := dk_46 (dk_at dksL_law_18 12 rfl rfl)
theorem dL_law_540 : decode cL_law 540 = .ok (.aload_n 0, 1) := dk_42 (dk_at dksL_law_18 13 rfl rfl)
theorem dL_law_541 : decode cL_law 541 = .ok (.iload 4, 2) := dk_21 4 (dk_at dksL_law_18 14 rfl rfl)
theorem dL_law_543 : decode cL_law 543 = .ok (.iconst 4, 1) := dk_7 (dk_at dksL_law_18 16 rfl rfl)
theorem dL_law_544 : decode cL_law 544 = .ok (.iadd, 1) := dk_96 (dk_at dksL_law_18 17 rfl rfl)
theorem dL_law_545 : decode cL_law 545 = .ok (.iaload, 1) := dk_46 (dk_at dksL_law_18 18 rfl rfl)
theorem dL_law_546 : decode cL_law 546 = .ok (.aload_n 3, 1) := dk_45 (dk_at dksL_law_18 19 rfl rfl)
theorem dL_law_547 : decode cL_law 547 = .ok (.invokestatic 133, 3) := dk_184 0 133 (dk_at dksL_law_18 20 rfl rfl)
theorem dL_law_550 : decode cL_law 550 = .ok (.istore 5, 2) := dk_54 5 (dk_at dksL_law_19 0 rfl rfl)
theorem dL_law_552 : decode cL_law 552 = .ok (.aload_n 2, 1) := dk_44 (dk_at dksL_law_19 2 rfl rfl)
theorem dL_law_553 : decode cL_law 553 = .ok (.aload_n 0, 1) := dk_42 (dk_at dksL_law_19 3 rfl rfl)
theorem dL_law_554 : decode cL_law 554 = .ok (.iload 4, 2) := dk_21 4 (dk_at dksL_law_19 4 rfl rfl)
theorem dL_law_556 : decode cL_law 556 = .ok (.iconst 1, 1) := dk_4 (dk_at dksL_law_19 6 rfl rfl)
theorem dL_law_557 : decode cL_law 557 = .ok (.iadd, 1) := dk_96 (dk_at dksL_law_19 7 rfl rfl)
theorem dL_law_558 : decode cL_law 558 = .ok (.iaload, 1) := dk_46 (dk_at dksL_law_19 8 rfl rfl)
theorem dL_law_559 : decode cL_law 559 = .ok (.aload_n 0, 1) := dk_42 (dk_at dksL_law_19 9 rfl rfl)
theorem dL_law_560 : decode cL_law 560 = .ok (.iload 4, 2) := dk_21 4 (dk_at dksL_law_19 10 rfl rfl)
theorem dL_law_562 : decode cL_law 562 = .ok (.iconst 2, 1) := dk_5 (dk_at dksL_law_19 12 rfl rfl)
theorem dL_law_563 : decode cL_law 563 = .ok (.iadd, 1) := dk_96 (dk_at dksL_law_19 13 rfl rfl)
theorem dL_law_564 : decode cL_law 564 = .ok (.iaload, 1) := dk_46 (dk_at dksL_law_19 14 rfl rfl)
theorem dL_law_565 : decode cL_law 565 = .ok (.aload_n 0, 1) := dk_42 (dk_at dksL_law_19 15 rfl rfl)
theorem dL_law_566 : decode cL_law 566 = .ok (.iload 4, 2) := dk_21 4 (dk_at dksL_law_19 16 rfl rfl)
theorem dL_law_568 : decode cL_law 568 = .ok (.iconst 3, 1) := dk_6 (dk_at dksL_law_19 18 rfl rfl)
theorem dL_law_569 : decode cL_law 569 = .ok (.iadd, 1) := dk_96 (dk_at dksL_law_19 19 rfl rfl)
theorem dL_law_570 : decode cL_law 570 = .ok (.iaload, 1) := dk_46 (dk_at dksL_law_19 20 rfl rfl)
theorem dL_law_571 : decode cL_law 571 = .ok (.aload_n 0, 1) := dk_42 (dk_at dksL_law_19 21 rfl rfl)
theorem dL_law_572 : decode cL_law 572 = .ok (.iload 4, 2) := dk_21 4 (dk_at dksL_law_19 22 rfl rfl)
theorem dL_law_574 : decode cL_law 574 = .ok (.iconst 4, 1) := dk_7 (dk_at dksL_law_20 0 rfl rfl)
theorem dL_law_575 : decode cL_law 575 = .ok (.iadd, 1) := dk_96 (dk_at dksL_law_20 1 rfl rfl)
theorem dL_law_576 : decode cL_law 576 = .ok (.iaload, 1) := dk_46 (dk_at dksL_law_20 2 rfl rfl)
theorem dL_law_577 : decode cL_law 577 = .ok (.invokevirtual 136, 3) := dk_182 0 136 (dk_at dksL_law_20 3 rfl rfl)
theorem dL_law_580 : decode cL_law 580 = .ok (.istore 6, 2) := dk_54 6 (dk_at dksL_law_20 6 rfl rfl)
theorem dL_law_582 : decode cL_law 582 = .ok (.aload_n 2, 1) := dk_44 (dk_at dksL_law_20 8 rfl rfl)
theorem dL_law_583 : decode cL_law 583 = .ok (.invokevirtual 116, 3) := dk_182 0 116 (dk_at dksL_law_20 9 rfl rfl)
theorem dL_law_586 : decode cL_law 586 = .ok (.iload 5, 2) := dk_21 5 (dk_at dksL_law_20 12 rfl rfl)
theorem dL_law_588 : decode cL_law 588 = .ok (.if_icmp .eq 5, 3) := dk_159 0 5 (dk_at dksL_law_20 14 rfl rfl)
theorem dL_law_591 : decode cL_law 591 = .ok (.iconst 0, 1) := dk_3 (dk_at dksL_law_20 17 rfl rfl)
theorem dL_law_592 : decode cL_law 592 = .ok (.ireturn, 1) := dk_172 (dk_at dksL_law_20 18 rfl rfl)
theorem dL_law_593 : decode cL_law 593 = .ok (.iload 5, 2) := dk_21 5 (dk_at dksL_law_20 19 rfl rfl)
theorem dL_law_595 : decode cL_law 595 = .ok (.ifCond .ne 15, 3) := dk_154 0 15 (dk_at dksL_law_20 21 rfl rfl)
theorem dL_law_598 : decode cL_law 598 = .ok (.aload_n 3, 1) := dk_45 (dk_at dksL_law_21 0 rfl rfl)
theorem dL_law_599 : decode cL_law 599 = .ok (.iconst 0, 1) := dk_3 (dk_at dksL_law_21 1 rfl rfl)
theorem dL_law_600 : decode cL_law 600 = .ok (.laload, 1) := dk_47 (dk_at dksL_law_21 2 rfl rfl)
theorem dL_law_601 : decode cL_law 601 = .ok (.iload 6, 2) := dk_21 6 (dk_at dksL_law_21 3 rfl rfl)
theorem dL_law_603 : decode cL_law 603 = .ok (.i2l, 1) := dk_133 (dk_at dksL_law_21 5 rfl rfl)
theorem dL_law_604 : decode cL_law 604 = .ok (.lcmp, 1) := dk_148 (dk_at dksL_law_21 6 rfl rfl)
theorem dL_law_605 : decode cL_law 605 = .ok (.ifCond .eq 5, 3) := dk_153 0 5 (dk_at dksL_law_21 7 rfl rfl)
theorem dL_law_608 : decode cL_law 608 = .ok (.iconst 0, 1) := dk_3 (dk_at dksL_law_21 10 rfl rfl)
theorem dL_law_609 : decode cL_law 609 = .ok (.ireturn, 1) := dk_172 (dk_at dksL_law_21 11 rfl rfl)
theorem dL_law_610 : decode cL_law 610 = .ok (.goto 1377, 3) := dk_167 5 97 (dk_at dksL_law_21 12 rfl rfl)
theorem dL_law_613 : decode cL_law 613 = .ok (.aload_n 1, 1) := dk_43 (dk_at dksL_law_21 15 rfl rfl)
theorem dL_law_614 : decode cL_law 614 = .ok (.aload_n 0, 1) := dk_42 (dk_at dksL_law_21 16 rfl rfl)
theorem dL_law_615 : decode cL_law 615 = .ok (.iload 4, 2) := dk_21 4 (dk_at dksL_law_21 17 rfl rfl)
theorem dL_law_617 : decode cL_law 617 = .ok (.iconst 1, 1) := dk_4 (dk_at dksL_law_21 19 rfl rfl)
theorem dL_law_618 : decode cL_law 618 = .ok (.iadd, 1) := dk_96 (dk_at dksL_law_21 20 rfl rfl)
theorem dL_law_619 : decode cL_law 619 = .ok (.iaload, 1) := dk_46 (dk_at dksL_law_21 21 rfl rfl)
theorem dL_law_620 : decode cL_law 620 = .ok (.aload_n 0, 1) := dk_42 (dk_at dksL_law_21 22 rfl rfl)
theorem dL_law_621 : decode cL_law 621 = .ok (.iload 4, 2) := dk_21 4 (dk_at dksL_law_22 0 rfl rfl)
theorem dL_law_623 : decode cL_law 623 = .ok (.iconst 2, 1) := dk_5 (dk_at dksL_law_22 2 rfl rfl)
theorem dL_law_624 : decode cL_law 624 = .ok (.iadd, 1) := dk_96 (dk_at dksL_law_22 3 rfl rfl)
theorem dL_law_625 : decode cL_law 625 = .ok (.iaload, 1) := dk_46 (dk_at dksL_law_22 4 rfl rfl)
theorem dL_law_626 : decode cL_law 626 = .ok (.aload_n 3, 1) := dk_45 (dk_at dksL_law_22 5 rfl rfl)
theorem dL_law_627 : decode cL_law 627 = .ok (.invokestatic 137, 3) := dk_184 0 137 (dk_at dksL_law_22 6 rfl rfl)
theorem dL_law_630 : decode cL_law 630 = .ok (.istore 5, 2) := dk_54 5 (dk_at dksL_law_22 9 rfl rfl)
theorem dL_law_632 : decode cL_law 632 = .ok (.aload_n 2, 1) := dk_44 (dk_at dksL_law_22 11 rfl rfl)
theorem dL_law_633 : decode cL_law 633 = .ok (.aload_n 0, 1) := dk_42 (dk_at dksL_law_22 12 rfl rfl)
theorem dL_law_634 : decode cL_law 634 = .ok (.iload 4, 2) := dk_21 4 (dk_at dksL_law_22 13 rfl rfl)
theorem dL_law_636 : decode cL_law 636 = .ok (.iconst 1, 1) := dk_4 (dk_at dksL_law_22 15 rfl rfl)
theorem dL_law_637 : decode cL_law 637 = .ok (.iadd, 1) := dk_96 (dk_at dksL_law_22 16 rfl rfl)
theorem dL_law_638 : decode cL_law 638 = .ok (.iaload, 1) := dk_46 (dk_at dksL_law_22 17 rfl rfl)
theorem dL_law_639 : decode cL_law 639 = .ok (.aload_n 0, 1) := dk_42 (dk_at dksL_law_22 18 rfl rfl)
theorem dL_law_640 : decode cL_law 640 = .ok (.iload 4, 2) := dk_21 4 (dk_at dksL_law_22 19 rfl rfl)
theorem dL_law_642 : decode cL_law 642 = .ok (.iconst 2, 1) := dk_5 (dk_at dksL_law_22 21 rfl rfl)
theorem dL_law_643 : decode cL_law 643 = .ok (.iadd, 1) := dk_96 (dk_at dksL_law_22 22 rfl rfl)
theorem dL_law_644 : decode cL_law 644 = .ok (.iaload, 1) := dk_46 (dk_at dksL_law_22 23 rfl rfl)
theorem dL_law_645 : decode cL_law 645 = .ok (.invokevirtual 139, 3) := dk_182 0 139 (dk_at dksL_law_23 0 rfl rfl)
theorem dL_law_648 : decode cL_law 648 = .ok (.istore 6, 2) := dk_54 6 (dk_at dksL_law_23 3 rfl rfl)
theorem dL_law_650 : decode cL_law 650 = .ok (.aload_n 2, 1) := dk_44 (dk_at dksL_law_23 5 rfl rfl)
theorem dL_law_651 : decode cL_law 651 = .ok (.invokevirtual 116, 3) := dk_182 0 116 (dk_at dksL_law_23 6 rfl rfl)
theorem dL_law_654 : decode cL_law 654 = .ok (.iload 5, 2) := dk_21 5 (dk_at dksL_law_23 9 rfl rfl)
theorem dL_law_656 : decode cL_law 656 = .ok (.if_icmp .eq 5, 3) := dk_159 0 5 (dk_at dksL_law_23 11 rfl rfl)
theorem dL_law_659 : decode cL_law 659 = .ok (.iconst 0, 1) := dk_3 (dk_at dksL_law_23 14 rfl rfl)
theorem dL_law_660 : decode cL_law 660 = .ok (.ireturn, 1) := dk_172 (dk_at dksL_law_23 15 rfl rfl)
theorem dL_law_661 : decode cL_law 661 = .ok (.iload 5, 2) := dk_21 5 (dk_at dksL_law_23 16 rfl rfl)
theorem dL_law_663 : decode cL_law 663 = .ok (.ifCond .ne 15, 3) := dk_154 0 15 (dk_at dksL_law_23 18 rfl rfl)
theorem dL_law_666 : decode cL_law 666 = .ok (.aload_n 3, 1) := dk_45 (dk_at dksL_law_23 21 rfl rfl)
theorem dL_law_667 : decode cL_law 667 = .ok (.iconst 0, 1) := dk_3 (dk_at dksL_law_23 22 rfl rfl)
theorem dL_law_668 : decode cL_law 668 = .ok (.laload, 1) := dk_47 (dk_at dksL_law_23 23 rfl rfl)
theorem dL_law_669 : decode cL_law 669 = .ok (.iload 6, 2) := dk_21 6 (dk_at dksL_law_24 0 rfl rfl)
theorem dL_law_671 : decode cL_law 671 = .ok (.i2l, 1) := dk_133 (dk_at dksL_law_24 2 rfl rfl)
theorem dL_law_672 : decode cL_law 672 = .ok (.lcmp, 1) := dk_148 (dk_at dksL_law_24 3 rfl rfl)
theorem dL_law_673 : decode cL_law 673 = .ok (.ifCond .eq 5, 3) := dk_153 0 5 (dk_at dksL_law_24 4 rfl rfl)
theorem dL_law_676 : decode cL_law 676 = .ok (.iconst 0, 1) := dk_3 (dk_at dksL_law_24 7 rfl rfl)
theorem dL_law_677 : decode cL_law 677 = .ok (.ireturn, 1) := dk_172 (dk_at dksL_law_24 8 rfl rfl)
theorem dL_law_678 : decode cL_law 678 = .ok (.goto 1309, 3) := dk_167 5 29 (dk_at dksL_law_24 9 rfl rfl)
theorem dL_law_681 : decode cL_law 681 = .ok (.aload_n 1, 1) := dk_43 (dk_at dksL_law_24 12 rfl rfl)
theorem dL_law_682 : decode cL_law 682 = .ok (.aload_n 0, 1) := dk_42 (dk_at dksL_law_24 13 rfl rfl)
theorem dL_law_683 : decode cL_law 683 = .ok (.iload 4, 2) := dk_21 4 (dk_at dksL_law_24 14 rfl rfl)
theorem dL_law_685 : decode cL_law 685 = .ok (.iconst 1, 1) := dk_4 (dk_at dksL_law_24 16 rfl rfl)
theorem dL_law_686 : decode cL_law 686 = .ok (.iadd, 1) := dk_96 (dk_at dksL_law_24 17 rfl rfl)
theorem dL_law_687 : decode cL_law 687 = .ok (.iaload, 1) := dk_46 (dk_at dksL_law_24 18 rfl rfl)
theorem dL_law_688 : decode cL_law 688 = .ok (.aload_n 0, 1) := dk_42 (dk_at dksL_law_24 19 rfl rfl)
theorem dL_law_689 : decode cL_law 689 = .ok (.iload 4, 2) := dk_21 4 (dk_at dksL_law_24 20 rfl rfl)
theorem dL_law_691 : decode cL_law 691 = .ok (.iconst 2, 1) := dk_5 (dk_at dksL_law_24 22 rfl rfl)
theorem dL_law_692 : decode cL_law 692 = .ok (.iadd, 1) := dk_96 (dk_at dksL_law_24 23 rfl rfl)
theorem dL_law_693 : decode cL_law 693 = .ok (.iaload, 1) := dk_46 (dk_at dksL_law_25 0 rfl rfl)
theorem dL_law_694 : decode cL_law 694 = .ok (.aload_n 3, 1) := dk_45 (dk_at dksL_law_25 1 rfl rfl)
theorem dL_law_695 : decode cL_law 695 = .ok (.invokestatic 140, 3) := dk_184 0 140 (dk_at dksL_law_25 2 rfl rfl)
theorem dL_law_698 : decode cL_law 698 = .ok (.istore 5, 2) := dk_54 5 (dk_at dksL_law_25 5 rfl rfl)
theorem dL_law_700 : decode cL_law 700 = .ok (.aload_n 2, 1) := dk_44 (dk_at dksL_law_25 7 rfl rfl)
theorem dL_law_701 : decode cL_law 701 = .ok (.aload_n 0, 1) := dk_42 (dk_at dksL_law_25 8 rfl rfl)
theorem dL_law_702 : decode cL_law 702 = .ok (.iload 4, 2) := dk_21 4 (dk_at dksL_law_25 9 rfl rfl)
theorem dL_law_704 : decode cL_law 704 = .ok (.iconst 1, 1) := dk_4 (dk_at dksL_law_25 11 rfl rfl)
theorem dL_law_705 : decode cL_law 705 = .ok (.iadd, 1) := dk_96 (dk_at dksL_law_25 12 rfl rfl)
theorem dL_law_706 : decode cL_law 706 = .ok (.iaload, 1) := dk_46 (dk_at dksL_law_25 13 rfl rfl)
theorem dL_law_707 : decode cL_law 707 = .ok (.aload_n 0, 1) := dk_42 (dk_at dksL_law_25 14 rfl rfl)
theorem dL_law_708 : decode cL_law 708 = .ok (.iload 4, 2) := dk_21 4 (dk_at dksL_law_25 15 rfl rfl)
theorem dL_law_710 : decode cL_law 710 = .ok (.iconst 2, 1) := dk_5 (dk_at dksL_law_25 17 rfl rfl)
theorem dL_law_711 : decode cL_law 711 = .ok (.iadd, 1) := dk_96 (dk_at dksL_law_25 18 rfl rfl)
theorem dL_law_712 : decode cL_law 712 = .ok (.iaload, 1) := dk_46 (dk_at dksL_law_25 19 rfl rfl)
theorem dL_law_713 : decode cL_law 713 = .ok (.invokevirtual 142, 3) := dk_182 0 142 (dk_at dksL_law_25 20 rfl rfl)
theorem dL_law_716 : decode cL_law 716 = .ok (.istore 6, 2) := dk_54 6 (dk_at dksL_law_26 0 rfl rfl)
theorem dL_law_718 : decode cL_law 718 = .ok (.aload_n 2, 1) := dk_44 (dk_at dksL_law_26 2 rfl rfl)
theorem dL_law_719 : decode cL_law 719 = .ok (.invokevirtual 116, 3) := dk_182 0 116 (dk_at dksL_law_26 3 rfl rfl)
theorem dL_law_722 : decode cL_law 722 = .ok (.iload 5, 2) := dk_21 5 (dk_at dksL_law_26 6 rfl rfl)
theorem dL_law_724 : decode cL_law 724 = .ok (.if_icmp .eq 5, 3) := dk_159 0 5 (dk_at dksL_law_26 8 rfl rfl)
theorem dL_law_727 : decode cL_law 727 = .ok (.iconst 0, 1) := dk_3 (dk_at dksL_law_26 11 rfl rfl)
theorem dL_law_728 : decode cL_law 728 = .ok (.ireturn, 1) := dk_172 (dk_at dksL_law_26 12 rfl rfl)
theorem dL_law_729 : decode cL_law 729 = .ok (.iload 5, 2) := dk_21 5 (dk_at dksL_law_26 13 rfl rfl)
theorem dL_law_731 : decode cL_law 731 = .ok (.ifCond .ne 15, 3) := dk_154 0 15 (dk_at dksL_law_26 15 rfl rfl)
theorem dL_law_734 : decode cL_law 734 = .ok (.aload_n 3, 1) := dk_45 (dk_at dksL_law_26 18 rfl rfl)
theorem dL_law_735 : decode cL_law 735 = .ok (.iconst 0, 1) := dk_3 (dk_at dksL_law_26 19 rfl rfl)
theorem dL_law_736 : decode cL_law 736 = .ok (.laload, 1) := dk_47 (dk_at dksL_law_26 20 rfl rfl)
theorem dL_law_737 : decode cL_law 737 = .ok (.iload 6, 2) := dk_21 6 (dk_at dksL_law_26 21 rfl rfl)
theorem dL_law_739 : decode cL_law 739 = .ok (.i2l, 1) := dk_133 (dk_at dksL_law_26 23 rfl rfl)
theorem dL_law_740 : decode cL_law 740 = .ok (.lcmp, 1) := dk_148 (dk_at dksL_law_27 0 rfl rfl)
theorem dL_law_741 : decode cL_law 741 = .ok (.ifCond .eq 5, 3) := dk_153 0 5 (dk_at dksL_law_27 1 rfl rfl)
theorem dL_law_744 : decode cL_law 744 = .ok (.iconst 0, 1) := dk_3 (dk_at dksL_law_27 4 rfl rfl)
theorem dL_law_745 : decode cL_law 745 = .ok (.ireturn, 1) := dk_172 (dk_at dksL_law_27 5 rfl rfl)
theorem dL_law_746 : decode cL_law 746 = .ok (.goto 1241, 3) := dk_167 4 217 (dk_at dksL_law_27 6 rfl rfl)
theorem dL_law_749 : decode cL_law 749 = .ok (.aload_n 1, 1) := dk_43 (dk_at dksL_law_27 9 rfl rfl)
theorem dL_law_750 : decode cL_law 750 = .ok (.aload_n 0, 1) := dk_42 (dk_at dksL_law_27 10 rfl rfl)
theorem dL_law_751 : decode cL_law 751 = .ok (.iload 4, 2) := dk_21 4 (dk_at dksL_law_27 11 rfl rfl)
theorem dL_law_753 : decode cL_law 753 = .ok (.iconst 1, 1) := dk_4 (dk_at dksL_law_27 13 rfl rfl)
theorem dL_law_754 : decode cL_law 754 = .ok (.iadd, 1) := dk_96 (dk_at dksL_law_27 14 rfl rfl)
theorem dL_law_755 : decode cL_law 755 = .ok (.iaload, 1) := dk_46 (dk_at dksL_law_27 15 rfl rfl)
theorem dL_law_756 : decode cL_law 756 = .ok (.aload_n 0, 1) := dk_42 (dk_at dksL_law_27 16 rfl rfl)
theorem dL_law_757 : decode cL_law 757 = .ok (.iload 4, 2) := dk_21 4 (dk_at dksL_law_27 17 rfl rfl)
theorem dL_law_759 : decode cL_law 759 = .ok (.iconst 2, 1) := dk_5 (dk_at dksL_law_27 19 rfl rfl)
theorem dL_law_760 : decode cL_law 760 = .ok (.iadd, 1) := dk_96 (dk_at dksL_law_27 20 rfl rfl)
theorem dL_law_761 : decode cL_law 761 = .ok (.iaload, 1) := dk_46 (dk_at dksL_law_27 21 rfl rfl)
theorem dL_law_762 : decode cL_law 762 = .ok (.aload_n 3, 1) := dk_45 (dk_at dksL_law_27 22 rfl rfl)
theorem dL_law_763 : decode cL_law 763 = .ok (.invokestatic 143, 3) := dk_184 0 143 (dk_at dksL_law_28 0 rfl rfl)
theorem dL_law_766 : decode cL_law 766 = .ok (.istore 5, 2) := dk_54 5 (dk_at dksL_law_28 3 rfl rfl)
theorem dL_law_768 : decode cL_law 768 = .ok (.aload_n 2, 1) := dk_44 (dk_at dksL_law_28 5 rfl rfl)
theorem dL_law_769 : decode cL_law 769 = .ok (.aload_n 0, 1) := dk_42 (dk_at dksL_law_28 6 rfl rfl)
theorem dL_law_770 : decode cL_law 770 = .ok (.iload 4, 2) := dk_21 4 (dk_at dksL_law_28 7 rfl rfl)
theorem dL_law_772 : decode cL_law 772 = .ok (.iconst 1, 1) := dk_4 (dk_at dksL_law_28 9 rfl rfl)
theorem dL_law_773 : decode cL_law 773 = .ok (.iadd, 1) := dk_96 (dk_at dksL_law_28 10 rfl rfl)
theorem dL_law_774 : decode cL_law 774 = .ok (.iaload, 1) := dk_46 (dk_at dksL_law_28 11 rfl rfl)
theorem dL_law_775 : decode cL_law 775 = .ok (.aload_n 0, 1) := dk_42 (dk_at dksL_law_28 12 rfl rfl)
theorem dL_law_776 : decode cL_law 776 = .ok (.iload 4, 2) := dk_21 4 (dk_at dksL_law_28 13 rfl rfl)
theorem dL_law_778 : decode cL_law 778 = .ok (.iconst 2, 1) := dk_5 (dk_at dksL_law_28 15 rfl rfl)
theorem dL_law_779 : decode cL_law 779 = .ok (.iadd, 1) := dk_96 (dk_at dksL_law_28 16 rfl rfl)
theorem dL_law_780 : decode cL_law 780 = .ok (.iaload, 1) := dk_46 (dk_at dksL_law_28 17 rfl rfl)
theorem dL_law_781 : decode cL_law 781 = .ok (.invokevirtual 145, 3) := dk_182 0 145 (dk_at dksL_law_28 18 rfl rfl)
theorem dL_law_784 : decode cL_law 784 = .ok (.istore 6, 2) := dk_54 6 (dk_at dksL_law_28 21 rfl rfl)
theorem dL_law_786 : decode cL_law 786 = .ok (.aload_n 2, 1) := dk_44 (dk_at dksL_law_28 23 rfl rfl)
theorem dL_law_787 : decode cL_law 787 = .ok (.invokevirtual 116, 3) := dk_182 0 116 (dk_at dksL_law_29 0 rfl rfl)
theorem dL_law_790 : decode cL_law 790 = .ok (.iload 5, 2) := dk_21 5 (dk_at dksL_law_29 3 rfl rfl)
theorem dL_law_792 : decode cL_law 792 = .ok (.if_icmp .eq 5, 3) := dk_159 0 5 (dk_at dksL_law_29 5 rfl rfl)
theorem dL_law_795 : decode cL_law 795 = .ok (.iconst 0, 1) := dk_3 (dk_at dksL_law_29 8 rfl rfl)
theorem dL_law_796 : decode cL_law 796 = .ok (.ireturn, 1) := dk_172 (dk_at dksL_law_29 9 rfl rfl)
theorem dL_law_797 : decode cL_law 797 = .ok (.iload 5, 2) := dk_21 5 (dk_at dksL_law_29 10 rfl rfl)
theorem dL_law_799 : decode cL_law 799 = .ok (.ifCond .ne 15, 3) := dk_154 0 15 (dk_at dksL_law_29 12 rfl rfl)
theorem dL_law_802 : decode cL_law 802 = .ok (.aload_n 3, 1) := dk_45 (dk_at dksL_law_29 15 rfl rfl)
theorem dL_law_803 : decode cL_law 803 = .ok (.iconst 0, 1) := dk_3 (dk_at dksL_law_29 16 rfl rfl)
theorem dL_law_804 : decode cL_law 804 = .ok (.laload, 1) := dk_47 (dk_at dksL_law_29 17 rfl rfl)
theorem dL_law_805 : decode cL_law 805 = .ok (.iload 6, 2) := dk_21 6 (dk_at dksL_law_29 18 rfl rfl)
theorem dL_law_807 : decode cL_law 807 = .ok (.i2l, 1) := dk_133 (dk_at dksL_law_29 20 rfl rfl)
theorem dL_law_808 : decode cL_law 808 = .ok (.lcmp, 1) := dk_148 (dk_at dksL_law_29 21 rfl rfl)
theorem dL_law_809 : decode cL_law 809 = .ok (.ifCond .eq 5, 3) := dk_153 0 5 (dk_at dksL_law_30 0 rfl rfl)
theorem dL_law_812 : decode cL_law 812 = .ok (.iconst 0, 1) := dk_3 (dk_at dksL_law_30 3 rfl rfl)
theorem dL_law_813 : decode cL_law 813 = .ok (.ireturn, 1) := dk_172 (dk_at dksL_law_30 4 rfl rfl)
theorem dL_law_814 : decode cL_law 814 = .ok (.goto 1173, 3) := dk_167 4 149 (dk_at dksL_law_30 5 rfl rfl)
theorem dL_law_817 : decode cL_law 817 = .ok (.aload_n 1, 1) := dk_43 (dk_at dksL_law_30 8 rfl rfl)
theorem dL_law_818 : decode cL_law 818 = .ok (.aload_n 0, 1) := dk_42 (dk_at dksL_law_30 9 rfl rfl)
theorem dL_law_819 : decode cL_law 819 = .ok (.iload 4, 2) := dk_21 4 (dk_at dksL_law_30 10 rfl rfl)
theorem dL_law_821 : decode cL_law 821 = .ok (.iconst 1, 1) := dk_4 (dk_at dksL_law_30 12 rfl rfl)
theorem dL_law_822 : decode cL_law 822 = .ok (.iadd, 1) := dk_96 (dk_at dksL_law_30 13 rfl rfl)
theorem dL_law_823 : decode cL_law 823 = .ok (.iaload, 1) := dk_46 (dk_at dksL_law_30 14 rfl rfl)
theorem dL_law_824 : decode cL_law 824 = .ok (.aload_n 0, 1) := dk_42 (dk_at dksL_law_30 15 rfl rfl)
theorem dL_law_825 : decode cL_law 825 = .ok (.iload 4, 2) := dk_21 4 (dk_at dksL_law_30 16 rfl rfl)
theorem dL_law_827 : decode cL_law 827 = .ok (.iconst 2, 1) := dk_5 (dk_at dksL_law_30 18 rfl rfl)
theorem dL_law_828 : decode cL_law 828 = .ok (.iadd, 1) := dk_96 (dk_at dksL_law_30 19 rfl rfl)
theorem dL_law_829 : decode cL_law 829 = .ok (.iaload, 1) := dk_46 (dk_at dksL_law_30 20 rfl rfl)
theorem dL_law_830 : decode cL_law 830 = .ok (.aload_n 3, 1) := dk_45 (dk_at dksL_law_30 21 rfl rfl)
theorem dL_law_831 : decode cL_law 831 = .ok (.invokestatic 146, 3) := dk_184 0 146 (dk_at dksL_law_31 0 rfl rfl)
theorem dL_law_834 : decode cL_law 834 = .ok (.istore 5, 2) := dk_54 5 (dk_at dksL_law_31 3 rfl rfl)
theorem dL_law_836 : decode cL_law 836 = .ok (.aload_n 2, 1) := dk_44 (dk_at dksL_law_31 5 rfl rfl)
theorem dL_law_837 : decode cL_law 837 = .ok (.aload_n 0, 1) := dk_42 (dk_at dksL_law_31 6 rfl rfl)
theorem dL_law_838 : decode cL_law 838 = .ok (.iload 4, 2) := dk_21 4 (dk_at dksL_law_31 7 rfl rfl)
theorem dL_law_840 : decode cL_law 840 = .ok (.iconst 1, 1) := dk_4 (dk_at dksL_law_31 9 rfl rfl)
theorem dL_law_841 : decode cL_law 841 = .ok (.iadd, 1) := dk_96 (dk_at dksL_law_31 10 rfl rfl)
theorem dL_law_842 : decode cL_law 842 = .ok (.iaload, 1) := dk_46 (dk_at dksL_law_31 11 rfl rfl)
theorem dL_law_843 : decode cL_law 843 = .ok (.aload_n 0, 1) := dk_42 (dk_at dksL_law_31 12 rfl rfl)
theorem dL_law_844 : decode cL_law 844 = .ok (.iload 4, 2) := dk_21 4 (dk_at dksL_law_31 13 rfl rfl)
theorem dL_law_846 : decode cL_law 846 = .ok (.iconst 2, 1) := dk_5 (dk_at dksL_law_31 15 rfl rfl)
theorem dL_law_847 : decode cL_law 847 = .ok (.iadd, 1) := dk_96 (dk_at dksL_law_31 16 rfl rfl)
theorem dL_law_848 : decode cL_law 848 = .ok (.iaload, 1) := dk_46 (dk_at dksL_law_31 17 rfl rfl)
theorem dL_law_849 : decode cL_law 849 = .ok (.invokevirtual 148, 3) := dk_182 0 148 (dk_at dksL_law_31 18 rfl rfl)
theorem dL_law_852 : decode cL_law 852 = .ok (.istore 6, 2) := dk_54 6 (dk_at dksL_law_31 21 rfl rfl)
theorem dL_law_854 : decode cL_law 854 = .ok (.aload_n 2, 1) := dk_44 (dk_at dksL_law_31 23 rfl rfl)
theorem dL_law_855 : decode cL_law 855 = .ok (.invokevirtual 116, 3) := dk_182 0 116 (dk_at dksL_law_32 0 rfl rfl)
theorem dL_law_858 : decode cL_law 858 = .ok (.iload 5, 2) := dk_21 5 (dk_at dksL_law_32 3 rfl rfl)
theorem dL_law_860 : decode cL_law 860 = .ok (.if_icmp .eq 5, 3) := dk_159 0 5 (dk_at dksL_law_32 5 rfl rfl)
theorem dL_law_863 : decode cL_law 863 = .ok (.iconst 0, 1) := dk_3 (dk_at dksL_law_32 8 rfl rfl)
theorem dL_law_864 : decode cL_law 864 = .ok (.ireturn, 1) := dk_172 (dk_at dksL_law_32 9 rfl rfl)
theorem dL_law_865 : decode cL_law 865 = .ok (.iload 5, 2) := dk_21 5 (dk_at dksL_law_32 10 rfl rfl)
theorem dL_law_867 : decode cL_law 867 = .ok (.ifCond .ne 15, 3) := dk_154 0 15 (dk_at dksL_law_32 12 rfl rfl)
theorem dL_law_870 : decode cL_law 870 = .ok (.aload_n 3, 1) := dk_45 (dk_at dksL_law_32 15 rfl rfl)
theorem dL_law_871 : decode cL_law 871 = .ok (.iconst 0, 1) := dk_3 (dk_at dksL_law_32 16 rfl rfl)
theorem dL_law_872 : decode cL_law 872 = .ok (.laload, 1) := dk_47 (dk_at dksL_law_32 17 rfl rfl)
theorem dL_law_873 : decode cL_law 873 = .ok (.iload 6, 2) := dk_21 6 (dk_at dksL_law_32 18 rfl rfl)
theorem dL_law_875 : decode cL_law 875 = .ok (.i2l, 1) := dk_133 (dk_at dksL_law_32 20 rfl rfl)
theorem dL_law_876 : decode cL_law 876 = .ok (.lcmp, 1) := dk_148 (dk_at dksL_law_32 21 rfl rfl)
theorem dL_law_877 : decode cL_law 877 = .ok (.ifCond .eq 5, 3) := dk_153 0 5 (dk_at dksL_law_33 0 rfl rfl)
theorem dL_law_880 : decode cL_law 880 = .ok (.iconst 0, 1) := dk_3 (dk_at dksL_law_33 3 rfl rfl)
theorem dL_law_881 : decode cL_law 881 = .ok (.ireturn, 1) := dk_172 (dk_at dksL_law_33 4 rfl rfl)
theorem dL_law_882 : decode cL_law 882 = .ok (.goto 1105, 3) := dk_167 4 81 (dk_at dksL_law_33 5 rfl rfl)
theorem dL_law_885 : decode cL_law 885 = .ok (.aload_n 1, 1) := dk_43 (dk_at dksL_law_33 8 rfl rfl)
theorem dL_law_886 : decode cL_law 886 = .ok (.aload_n 0, 1) := dk_42 (dk_at dksL_law_33 9 rfl rfl)
theorem dL_law_887 : decode cL_law 887 = .ok (.iload 4, 2) := dk_21 4 (dk_at dksL_law_33 10 rfl rfl)
theorem dL_law_889 : decode cL_law 889 = .ok (.iconst 1, 1) := dk_4 (dk_at dksL_law_33 12 rfl rfl)
theorem dL_law_890 : decode cL_law 890 = .ok (.iadd, 1) := dk_96 (dk_at dksL_law_33 13 rfl rfl)
theorem dL_law_891 : decode cL_law 891 = .ok (.iaload, 1) := dk_46 (dk_at dksL_law_33 14 rfl rfl)
theorem dL_law_892 : decode cL_law 892 = .ok (.aload_n 3, 1) := dk_45 (dk_at dksL_law_33 15 rfl rfl)
theorem dL_law_893 : decode cL_law 893 = .ok (.invokestatic 149, 3) := dk_184 0 149 (dk_at dksL_law_33 16 rfl rfl)
theorem dL_law_896 : decode cL_law 896 = .ok (.istore 5, 2) := dk_54 5 (dk_at dksL_law_33 19 rfl rfl)
theorem dL_law_898 : decode cL_law 898 = .ok (.aload_n 2, 1) := dk_44 (dk_at dksL_law_33 21 rfl rfl)
theorem dL_law_899 : decode cL_law 899 = .ok (.aload_n 0, 1) := dk_42 (dk_at dksL_law_33 22 rfl rfl)
theorem dL_law_900 : decode cL_law 900 = .ok (.iload 4, 2) := dk_21 4 (dk_at dksL_law_34 0 rfl rfl)
theorem dL_law_902 : decode cL_law 902 = .ok (.iconst 1, 1) := dk_4 (dk_at dksL_law_34 2 rfl rfl)
theorem dL_law_903 : decode cL_law 903 = .ok (.iadd, 1) := dk_96 (dk_at dksL_law_34 3 rfl rfl)
theorem dL_law_904 : decode cL_law 904 = .ok (.iaload, 1) := dk_46 (dk_at dksL_law_34 4 rfl rfl)
theorem dL_law_905 : decode cL_law 905 = .ok (.invokevirtual 151, 3) := dk_182 0 151 (dk_at dksL_law_34 5 rfl rfl)
theorem dL_law_908 : decode cL_law 908 = .ok (.istore 6, 2) := dk_54 6 (dk_at dksL_law_34 8 rfl rfl)
theorem dL_law_910 : decode cL_law 910 = .ok (.aload_n 2, 1) := dk_44 (dk_at dksL_law_34 10 rfl rfl)
theorem dL_law_911 : decode cL_law 911 = .ok (.invokevirtual 116, 3) := dk_182 0 116 (dk_at dksL_law_34 11 rfl rfl)
theorem dL_law_914 : decode cL_law 914 = .ok (.iload 5, 2) := dk_21 5 (dk_at dksL_law_34 14 rfl rfl)
theorem dL_law_916 : decode cL_law 916 = .ok (.if_icmp .eq 5, 3) := dk_159 0 5 (dk_at dksL_law_34 16 rfl rfl)
theorem dL_law_919 : decode cL_law 919 = .ok (.iconst 0, 1) := dk_3 (dk_at dksL_law_34 19 rfl rfl)
theorem dL_law_920 : decode cL_law 920 = .ok (.ireturn, 1) := dk_172 (dk_at dksL_law_34 20 rfl rfl)
theorem dL_law_921 : decode cL_law 921 = .ok (.iload 5, 2) := dk_21 5 (dk_at dksL_law_34 21 rfl rfl)
theorem dL_law_923 : decode cL_law 923 = .ok (.ifCond .ne 15, 3) := dk_154 0 15 (dk_at dksL_law_35 0 rfl rfl)
theorem dL_law_926 : decode cL_law 926 = .ok (.aload_n 3, 1) := dk_45 (dk_at dksL_law_35 3 rfl rfl)
theorem dL_law_927 : decode cL_law 927 = .ok (.iconst 0, 1) := dk_3 (dk_at dksL_law_35 4 rfl rfl)
theorem dL_law_928 : decode cL_law 928 = .ok (.laload, 1) := dk_47 (dk_at dksL_law_35 5 rfl rfl)
theorem dL_law_929 : decode cL_law 929 = .ok (.iload 6, 2) := dk_21 6 (dk_at dksL_law_35 6 rfl rfl)
theorem dL_law_931 : decode cL_law 931 = .ok (.i2l, 1) := dk_133 (dk_at dksL_law_35 8 rfl rfl)
theorem dL_law_932 : decode cL_law 932 = .ok (.lcmp, 1) := dk_148 (dk_at dksL_law_35 9 rfl rfl)
theorem dL_law_933 : decode cL_law 933 = .ok (.ifCond .eq 5, 3) := dk_153 0 5 (dk_at dksL_law_35 10 rfl rfl)
theorem dL_law_936 : decode cL_law 936 = .ok (.iconst 0, 1) := dk_3 (dk_at dksL_law_35 13 rfl rfl)
theorem dL_law_937 : decode cL_law 937 = .ok (.ireturn, 1) := dk_172 (dk_at dksL_law_35 14 rfl rfl)
theorem dL_law_938 : decode cL_law 938 = .ok (.goto 1049, 3) := dk_167 4 25 (dk_at dksL_law_35 15 rfl rfl)
theorem dL_law_941 : decode cL_law 941 = .ok (.aload_n 1, 1) := dk_43 (dk_at dksL_law_35 18 rfl rfl)
theorem dL_law_942 : decode cL_law 942 = .ok (.aload_n 0, 1) := dk_42 (dk_at dksL_law_35 19 rfl rfl)
theorem dL_law_943 : decode cL_law 943 = .ok (.iload 4, 2) := dk_21 4 (dk_at dksL_law_35 20 rfl rfl)
theorem dL_law_945 : decode cL_law 945 = .ok (.iconst 1, 1) := dk_4 (dk_at dksL_law_35 22 rfl rfl)
theorem dL_law_946 : decode cL_law 946 = .ok (.iadd, 1) := dk_96 (dk_at dksL_law_35 23 rfl rfl)
theorem dL_law_947 : decode cL_law 947 = .ok (.iaload, 1) := dk_46 (dk_at dksL_law_36 0 rfl rfl)
theorem dL_law_948 : decode cL_law 948 = .ok (.aload_n 3, 1) := dk_45 (dk_at dksL_law_36 1 rfl rfl)
theorem dL_law_949 : decode cL_law 949 = .ok (.invokestatic 152, 3) := dk_184 0 152 (dk_at dksL_law_36 2 rfl rfl)
theorem dL_law_952 : decode cL_law 952 = .ok (.istore 5, 2) := dk_54 5 (dk_at dksL_law_36 5 rfl rfl)
theorem dL_law_954 : decode cL_law 954 = .ok (.aload_n 2, 1) := dk_44 (dk_at dksL_law_36 7 rfl rfl)
theorem dL_law_955 : decode cL_law 955 = .ok (.aload_n 0, 1) := dk_42 (dk_at dksL_law_36 8 rfl rfl)
theorem dL_law_956 : decode cL_law 956 = .ok (.iload 4, 2) := dk_21 4 (dk_at dksL_law_36 9 rfl rfl)
theorem dL_law_958 : decode cL_law 958 = .ok (.iconst 1, 1) := dk_4 (dk_at dksL_law_36 11 rfl rfl)
theorem dL_law_959 : decode cL_law 959 = .ok (.iadd, 1) := dk_96 (dk_at dksL_law_36 12 rfl rfl)
theorem dL_law_960 : decode cL_law 960 = .ok (.iaload, 1) := dk_46 (dk_at dksL_law_36 13 rfl rfl)
theorem dL_law_961 : decode cL_law 961 = .ok (.invokevirtual 154, 3) := dk_182 0 154 (dk_at dksL_law_36 14 rfl rfl)
theorem dL_law_964 : decode cL_law 964 = .ok (.istore 6, 2) := dk_54 6 (dk_at dksL_law_36 17 rfl rfl)
theorem dL_law_966 : decode cL_law 966 = .ok (.aload_n 2, 1) := dk_44 (dk_at dksL_law_36 19 rfl rfl)
theorem dL_law_967 : decode cL_law 967 = .ok (.invokevirtual 116, 3) := dk_182 0 116 (dk_at dksL_law_36 20 rfl rfl)
theorem dL_law_970 : decode cL_law 970 = .ok (.iload 5, 2) := dk_21 5 (dk_at dksL_law_37 0 rfl rfl)
theorem dL_law_972 : decode cL_law 972 = .ok (.if_icmp .eq 5, 3) := dk_159 0 5 (dk_at dksL_law_37 2 rfl rfl)
theorem dL_law_975 : decode cL_law 975 = .ok (.iconst 0, 1) := dk_3 (dk_at dksL_law_37 5 rfl rfl)
theorem dL_law_976 : decode cL_law 976 = .ok (.ireturn, 1) := dk_172 (dk_at dksL_law_37 6 rfl rfl)
theorem dL_law_977 : decode cL_law 977 = .ok (.iload 5, 2) := dk_21 5 (dk_at dksL_law_37 7 rfl rfl)
theorem dL_law_979 : decode cL_law 979 = .ok (.ifCond .ne 22, 3) := dk_154 0 22 (dk_at dksL_law_37 9 rfl rfl)
theorem dL_law_982 : decode cL_law 982 = .ok (.aload_n 3, 1) := dk_45 (dk_at dksL_law_37 12 rfl rfl)
theorem dL_law_983 : decode cL_law 983 = .ok (.iconst 0, 1) := dk_3 (dk_at dksL_law_37 13 rfl rfl)
theorem dL_law_984 : decode cL_law 984 = .ok (.laload, 1) := dk_47 (dk_at dksL_law_37 14 rfl rfl)
theorem dL_law_985 : decode cL_law 985 = .ok (.iload 6, 2) := dk_21 6 (dk_at dksL_law_37 15 rfl rfl)
theorem dL_law_987 : decode cL_law 987 = .ok (.ifCond .eq 7, 3) := dk_153 0 7 (dk_at dksL_law_37 17 rfl rfl)
theorem dL_law_990 : decode cL_law 990 = .ok (.lconst 1, 1) := dk_10 (dk_at dksL_law_37 20 rfl rfl)
theorem dL_law_991 : decode cL_law 991 = .ok (.goto 4, 3) := dk_167 0 4 (dk_at dksL_law_37 21 rfl rfl)
theorem dL_law_994 : decode cL_law 994 = .ok (.lconst 0, 1) := dk_9 (dk_at dksL_law_38 0 rfl rfl)
theorem dL_law_995 : decode cL_law 995 = .ok (.lcmp, 1) := dk_148 (dk_at dksL_law_38 1 rfl rfl)
theorem dL_law_996 : decode cL_law 996 = .ok (.ifCond .eq 5, 3) := dk_153 0 5 (dk_at dksL_law_38 2 rfl rfl)
theorem dL_law_999 : decode cL_law 999 = .ok (.iconst 0, 1) := dk_3 (dk_at dksL_law_38 5 rfl rfl)
theorem dL_law_1000 : decode cL_law 1000 = .ok (.ireturn, 1) := dk_172 (dk_at dksL_law_38 6 rfl rfl)
theorem dL_law_1001 : decode cL_law 1001 = .ok (.goto 986, 3) := dk_167 3 218 (dk_at dksL_law_38 7 rfl rfl)
theorem dL_law_1004 : decode cL_law 1004 = .ok (.aload_n 1, 1) := dk_43 (dk_at dksL_law_38 10 rfl rfl)
theorem dL_law_1005 : decode cL_law 1005 = .ok (.aload_n 0, 1) := dk_42 (dk_at dksL_law_38 11 rfl rfl)
theorem dL_law_1006 : decode cL_law 1006 = .ok (.iload 4, 2) := dk_21 4 (dk_at dksL_law_38 12 rfl rfl)
theorem dL_law_1008 : decode cL_law 1008 = .ok (.iconst 1, 1) := dk_4 (dk_at dksL_law_38 14 rfl rfl)
theorem dL_law_1009 : decode cL_law 1009 = .ok (.iadd, 1) := dk_96 (dk_at dksL_law_38 15 rfl rfl)
theorem dL_law_1010 : decode cL_law 1010 = .ok (.iaload, 1) := dk_46 (dk_at dksL_law_38 16 rfl rfl)
theorem dL_law_1011 : decode cL_law 1011 = .ok (.aload_n 3, 1) := dk_45 (dk_at dksL_law_38 17 rfl rfl)
theorem dL_law_1012 : decode cL_law 1012 = .ok (.invokestatic 155, 3) := dk_184 0 155 (dk_at dksL_law_38 18 rfl rfl)
theorem dL_law_1015 : decode cL_law 1015 = .ok (.istore 5, 2) := dk_54 5 (dk_at dksL_law_38 21 rfl rfl)
theorem dL_law_1017 : decode cL_law 1017 = .ok (.aload_n 2, 1) := dk_44 (dk_at dksL_law_38 23 rfl rfl)
theorem dL_law_1018 : decode cL_law 1018 = .ok (.aload_n 0, 1) := dk_42 (dk_at dksL_law_39 0 rfl rfl)
theorem dL_law_1019 : decode cL_law 1019 = .ok (.iload 4, 2) := dk_21 4 (dk_at dksL_law_39 1 rfl rfl)
theorem dL_law_1021 : decode cL_law 1021 = .ok (.iconst 1, 1) := dk_4 (dk_at dksL_law_39 3 rfl rfl)
theorem dL_law_1022 : decode cL_law 1022 = .ok (.iadd, 1) := dk_96 (dk_at dksL_law_39 4 rfl rfl)
theorem dL_law_1023 : decode cL_law 1023 = .ok (.iaload, 1) := dk_46 (dk_at dksL_law_39 5 rfl rfl)
theorem dL_law_1024 : decode cL_law 1024 = .ok (.invokevirtual 157, 3) := dk_182 0 157 (dk_at dksL_law_39 6 rfl rfl)
theorem dL_law_1027 : decode cL_law 1027 = .ok (.istore 6, 2) := dk_54 6 (dk_at dksL_law_39 9 rfl rfl)
theorem dL_law_1029 : decode cL_law 1029 = .ok (.aload_n 2, 1) := dk_44 (dk_at dksL_law_39 11 rfl rfl)
theorem dL_law_1030 : decode cL_law 1030 = .ok (.invokevirtual 116, 3) := dk_182 0 116 (dk_at dksL_law_39 12 rfl rfl)
theorem dL_law_1033 : decode cL_law 1033 = .ok (.iload 5, 2) := dk_21 5 (dk_at dksL_law_39 15 rfl rfl)
theorem dL_law_1035 : decode cL_law 1035 = .ok (.if_icmp .eq 5, 3) := dk_159 0 5 (dk_at dksL_law_39 17 rfl rfl)
theorem dL_law_1038 : decode cL_law 1038 = .ok (.iconst 0, 1) := dk_3 (dk_at dksL_law_39 20 rfl rfl)
theorem dL_law_1039 : decode cL_law 1039 = .ok (.ireturn, 1) := dk_172 (dk_at dksL_law_39 21 rfl rfl)
theorem dL_law_1040 : decode cL_law 1040 = .ok (.iload 5, 2) := dk_21 5 (dk_at dksL_law_39 22 rfl rfl)
theorem dL_law_1042 : decode cL_law 1042 = .ok (.ifCond .ne 15, 3) := dk_154 0 15 (dk_at dksL_law_40 0 rfl rfl)
theorem dL_law_1045 : decode cL_law 1045 = .ok (.aload_n 3, 1) := dk_45 (dk_at dksL_law_40 3 rfl rfl)
theorem dL_law_1046 : decode cL_law 1046 = .ok (.iconst 0, 1) := dk_3 (dk_at dksL_law_40 4 rfl rfl)
theorem dL_law_1047 : decode cL_law 1047 = .ok (.laload, 1) := dk_47 (dk_at dksL_law_40 5 rfl rfl)
theorem dL_law_1048 : decode cL_law 1048 = .ok (.iload 6, 2) := dk_21 6 (dk_at dksL_law_40 6 rfl rfl)
theorem dL_law_1050 : decode cL_law 1050 = .ok (.i2l, 1) := dk_133 (dk_at dksL_law_40 8 rfl rfl)
theorem dL_law_1051 : decode cL_law 1051 = .ok (.lcmp, 1) := dk_148 (dk_at dksL_law_40 9 rfl rfl)
theorem dL_law_1052 : decode cL_law 1052 = .ok (.ifCond .eq 5, 3) := dk_153 0 5 (dk_at dksL_law_40 10 rfl rfl)
theorem dL_law_1055 : decode cL_law 1055 = .ok (.iconst 0, 1) := dk_3 (dk_at dksL_law_40 13 rfl rfl)
theorem dL_law_1056 : decode cL_law 1056 = .ok (.ireturn, 1) := dk_172 (dk_at dksL_law_40 14 rfl rfl)
theorem dL_law_1057 : decode cL_law 1057 = .ok (.goto 930, 3) := dk_167 3 162 (dk_at dksL_law_40 15 rfl rfl)
theorem dL_law_1060 : decode cL_law 1060 = .ok (.aload_n 1, 1) := dk_43 (dk_at dksL_law_40 18 rfl rfl)
theorem dL_law_1061 : decode cL_law 1061 = .ok (.aload_n 0, 1) := dk_42 (dk_at dksL_law_40 19 rfl rfl)
theorem dL_law_1062 : decode cL_law 1062 = .ok (.iload 4, 2) := dk_21 4 (dk_at dksL_law_40 20 rfl rfl)
theorem dL_law_1064 : decode cL_law 1064 = .ok (.iconst 1, 1) := dk_4 (dk_at dksL_law_40 22 rfl rfl)
theorem dL_law_1065 : decode cL_law 1065 = .ok (.iadd, 1) := dk_96 (dk_at dksL_law_40 23 rfl rfl)
theorem dL_law_1066 : decode cL_law 1066 = .ok (.iaload, 1) := dk_46 (dk_at dksL_law_41 0 rfl rfl)
theorem dL_law_1067 : decode cL_law 1067 = .ok (.aload_n 0, 1) := dk_42 (dk_at dksL_law_41 1 rfl rfl)
theorem dL_law_1068 : decode cL_law 1068 = .ok (.iload 4, 2) := dk_21 4 (dk_at dksL_law_41 2 rfl rfl)
theorem dL_law_1070 : decode cL_law 1070 = .ok (.iconst 2, 1) := dk_5 (dk_at dksL_law_41 4 rfl rfl)
theorem dL_law_1071 : decode cL_law 1071 = .ok (.iadd, 1) := dk_96 (dk_at dksL_law_41 5 rfl rfl)
theorem dL_law_1072 : decode cL_law 1072 = .ok (.iaload, 1) := dk_46 (dk_at dksL_law_41 6 rfl rfl)
theorem dL_law_1073 : decode cL_law 1073 = .ok (.aload_n 3, 1) := dk_45 (dk_at dksL_law_41 7 rfl rfl)
theorem dL_law_1074 : decode cL_law 1074 = .ok (.invokestatic 158, 3) := dk_184 0 158 (dk_at dksL_law_41 8 rfl rfl)
theorem dL_law_1077 : decode cL_law 1077 = .ok (.istore 5, 2) := dk_54 5 (dk_at dksL_law_41 11 rfl rfl)
theorem dL_law_1079 : decode cL_law 1079 = .ok (.aload_n 2, 1) := dk_44 (dk_at dksL_law_41 13 rfl rfl)
theorem dL_law_1080 : decode cL_law 1080 = .ok (.aload_n 0, 1) := dk_42 (dk_at dksL_law_41 14 rfl rfl)
theorem dL_law_1081 : decode cL_law 1081 = .ok (.iload 4, 2) := dk_21 4 (dk_at dksL_law_41 15 rfl rfl)
theorem dL_law_1083 : decode cL_law 1083 = .ok (.iconst 1, 1) := dk_4 (dk_at dksL_law_41 17 rfl rfl)
theorem dL_law_1084 : decode cL_law 1084 = .ok (.iadd, 1) := dk_96 (dk_at dksL_law_41 18 rfl rfl)
theorem dL_law_1085 : decode cL_law 1085 = .ok (.iaload, 1) := dk_46 (dk_at dksL_law_41 19 rfl rfl)
theorem dL_law_1086 : decode cL_law 1086 = .ok (.aload_n 0, 1) := dk_42 (dk_at dksL_law_41 20 rfl rfl)
theorem dL_law_1087 : decode cL_law 1087 = .ok (.iload 4, 2) := dk_21 4 (dk_at dksL_law_41 21 rfl rfl)
theorem dL_law_1089 : decode cL_law 1089 = .ok (.iconst 2, 1) := dk_5 (dk_at dksL_law_41 23 rfl rfl)
theorem dL_law_1090 : decode cL_law 1090 = .ok (.iadd, 1) := dk_96 (dk_at dksL_law_42 0 rfl rfl)
theorem dL_law_1091 : decode cL_law 1091 = .ok (.iaload, 1) := dk_46 (dk_at dksL_law_42 1 rfl rfl)
theorem dL_law_1092 : decode cL_law 1092 = .ok (.invokevirtual 160, 3) := dk_182 0 160 (dk_at dksL_law_42 2 rfl rfl)
theorem dL_law_1095 : decode cL_law 1095 = .ok (.istore 6, 2) := dk_54 6 (dk_at dksL_law_42 5 rfl rfl)
theorem dL_law_1097 : decode cL_law 1097 = .ok (.aload_n 2, 1) := dk_44 (dk_at dksL_law_42 7 rfl rfl)
theorem dL_law_1098 : decode cL_law 1098 = .ok (.invokevirtual 116, 3) := dk_182 0 116 (dk_at dksL_law_42 8 rfl rfl)
theorem dL_law_1101 : decode cL_law 1101 = .ok (.iload 5, 2) := dk_21 5 (dk_at dksL_law_42 11 rfl rfl)
theorem dL_law_1103 : decode cL_law 1103 = .ok (.if_icmp .eq 5, 3) := dk_159 0 5 (dk_at dksL_law_42 13 rfl rfl)
theorem dL_law_1106 : decode cL_law 1106 = .ok (.iconst 0, 1) := dk_3 (dk_at dksL_law_42 16 rfl rfl)
theorem dL_law_1107 : decode cL_law 1107 = .ok (.ireturn, 1) := dk_172 (dk_at dksL_law_42 17 rfl rfl)
theorem dL_law_1108 : decode cL_law 1108 = .ok (.iload 5, 2) := dk_21 5 (dk_at dksL_law_42 18 rfl rfl)
theorem dL_law_1110 : decode cL_law 1110 = .ok (.ifCond .ne 15, 3) := dk_154 0 15 (dk_at dksL_law_42 20 rfl rfl)
theorem dL_law_1113 : decode cL_law 1113 = .ok (.aload_n 3, 1) := dk_45 (dk_at dksL_law_42 23 rfl rfl)
theorem dL_law_1114 : decode cL_law 1114 = .ok (.iconst 0, 1) := dk_3 (dk_at dksL_law_43 0 rfl rfl)
theorem dL_law_1115 : decode cL_law 1115 = .ok (.laload, 1) := dk_47 (dk_at dksL_law_43 1 rfl rfl)
theorem dL_law_1116 : decode cL_law 1116 = .ok (.iload 6, 2) := dk_21 6 (dk_at dksL_law_43 2 rfl rfl)
theorem dL_law_1118 : decode cL_law 1118 = .ok (.i2l, 1) := dk_133 (dk_at dksL_law_43 4 rfl rfl)
theorem dL_law_1119 : decode cL_law 1119 = .ok (.lcmp, 1) := dk_148 (dk_at dksL_law_43 5 rfl rfl)
theorem dL_law_1120 : decode cL_law 1120 = .ok (.ifCond .eq 5, 3) := dk_153 0 5 (dk_at dksL_law_43 6 rfl rfl)
theorem dL_law_1123 : decode cL_law 1123 = .ok (.iconst 0, 1) := dk_3 (dk_at dksL_law_43 9 rfl rfl)
theorem dL_law_1124 : decode cL_law 1124 = .ok (.ireturn, 1) := dk_172 (dk_at dksL_law_43 10 rfl rfl)
theorem dL_law_1125 : decode cL_law 1125 = .ok (.goto 862, 3) := dk_167 3 94 (dk_at dksL_law_43 11 rfl rfl)
theorem dL_law_1128 : decode cL_law 1128 = .ok (.aload_n 1, 1) := dk_43 (dk_at dksL_law_43 14 rfl rfl)
theorem dL_law_1129 : decode cL_law 1129 = .ok (.aload_n 0, 1) := dk_42 (dk_at dksL_law_43 15 rfl rfl)
theorem dL_law_1130 : decode cL_law 1130 = .ok (.iload 4, 2) := dk_21 4 (dk_at dksL_law_43 16 rfl rfl)
theorem dL_law_1132 : decode cL_law 1132 = .ok (.iconst 1, 1) := dk_4 (dk_at dksL_law_43 18 rfl rfl)
theorem dL_law_1133 : decode cL_law 1133 = .ok (.iadd, 1) := dk_96 (dk_at dksL_law_43 19 rfl rfl)
theorem dL_law_1134 : decode cL_law 1134 = .ok (.iaload, 1) := dk_46 (dk_at dksL_law_43 20 rfl rfl)
theorem dL_law_1135 : decode cL_law 1135 = .ok (.aload_n 3, 1) := dk_45 (dk_at dksL_law_43 21 rfl rfl)
theorem dL_law_1136 : decode cL_law 1136 = .ok (.invokestatic 161, 3) := dk_184 0 161 (dk_at dksL_law_44 0 rfl rfl)
theorem dL_law_1139 : decode cL_law 1139 = .ok (.istore 5, 2) := dk_54 5 (dk_at dksL_law_44 3 rfl rfl)
theorem dL_law_1141 : decode cL_law 1141 = .ok (.aload_n 2, 1) := dk_44 (dk_at dksL_law_44 5 rfl rfl)
theorem dL_law_1142 : decode cL_law 1142 = .ok (.aload_n 0, 1) := dk_42 (dk_at dksL_law_44 6 rfl rfl)
theorem dL_law_1143 : decode cL_law 1143 = .ok (.iload 4, 2) := dk_21 4 (dk_at dksL_law_44 7 rfl rfl)
theorem dL_law_1145 : decode cL_law 1145 = .ok (.iconst 1, 1) := dk_4 (dk_at dksL_law_44 9 rfl rfl)
theorem dL_law_1146 : decode cL_law 1146 = .ok (.iadd, 1) := dk_96 (dk_at dksL_law_44 10 rfl rfl)
theorem dL_law_1147 : decode cL_law 1147 = .ok (.iaload, 1) := dk_46 (dk_at dksL_law_44 11 rfl rfl)
theorem dL_law_1148 : decode cL_law 1148 = .ok (.invokevirtual 163, 3) := dk_182 0 163 (dk_at dksL_law_44 12 rfl rfl)
theorem dL_law_1151 : decode cL_law 1151 = .ok (.istore 6, 2) := dk_54 6 (dk_at dksL_law_44 15 rfl rfl)
theorem dL_law_1153 : decode cL_law 1153 = .ok (.aload_n 2, 1) := dk_44 (dk_at dksL_law_44 17 rfl rfl)
theorem dL_law_1154 : decode cL_law 1154 = .ok (.invokevirtual 116, 3) := dk_182 0 116 (dk_at dksL_law_44 18 rfl rfl)
theorem dL_law_1157 : decode cL_law 1157 = .ok (.iload 5, 2) := dk_21 5 (dk_at dksL_law_44 21 rfl rfl)
theorem dL_law_1159 : decode cL_law 1159 = .ok (.if_icmp .eq 5, 3) := dk_159 0 5 (dk_at dksL_law_45 0 rfl rfl)
theorem dL_law_1162 : decode cL_law 1162 = .ok (.iconst 0, 1) := dk_3 (dk_at dksL_law_45 3 rfl rfl)
theorem dL_law_1163 : decode cL_law 1163 = .ok (.ireturn, 1) := dk_172 (dk_at dksL_law_45 4 rfl rfl)
theorem dL_law_1164 : decode cL_law 1164 = .ok (.iload 5, 2) := dk_21 5 (dk_at dksL_law_45 5 rfl rfl)
theorem dL_law_1166 : decode cL_law 1166 = .ok (.ifCond .ne 15, 3) := dk_154 0 15 (dk_at dksL_law_45 7 rfl rfl)
theorem dL_law_1169 : decode cL_law 1169 = .ok (.aload_n 3, 1) := dk_45 (dk_at dksL_law_45 10 rfl rfl)
theorem dL_law_1170 : decode cL_law 1170 = .ok (.iconst 0, 1) := dk_3 (dk_at dksL_law_45 11 rfl rfl)
theorem dL_law_1171 : decode cL_law 1171 = .ok (.laload, 1) := dk_47 (dk_at dksL_law_45 12 rfl rfl)
theorem dL_law_1172 : decode cL_law 1172 = .ok (.iload 6, 2) := dk_21 6 (dk_at dksL_law_45 13 rfl rfl)
theorem dL_law_1174 : decode cL_law 1174 = .ok (.i2l, 1) := dk_133 (dk_at dksL_law_45 15 rfl rfl)
theorem dL_law_1175 : decode cL_law 1175 = .ok (.lcmp, 1) := dk_148 (dk_at dksL_law_45 16 rfl rfl)
theorem dL_law_1176 : decode cL_law 1176 = .ok (.ifCond .eq 5, 3) := dk_153 0 5 (dk_at dksL_law_45 17 rfl rfl)
theorem dL_law_1179 : decode cL_law 1179 = .ok (.iconst 0, 1) := dk_3 (dk_at dksL_law_45 20 rfl rfl)
theorem dL_law_1180 : decode cL_law 1180 = .ok (.ireturn, 1) := dk_172 (dk_at dksL_law_45 21 rfl rfl)
theorem dL_law_1181 : decode cL_law 1181 = .ok (.goto 806, 3) := dk_167 3 38 (dk_at dksL_law_46 0 rfl rfl)
theorem dL_law_1184 : decode cL_law 1184 = .ok (.aload_n 1, 1) := dk_43 (dk_at dksL_law_46 3 rfl rfl)
theorem dL_law_1185 : decode cL_law 1185 = .ok (.aload_n 0, 1) := dk_42 (dk_at dksL_law_46 4 rfl rfl)
theorem dL_law_1186 : decode cL_law 1186 = .ok (.iload 4, 2) := dk_21 4 (dk_at dksL_law_46 5 rfl rfl)
theorem dL_law_1188 : decode cL_law 1188 = .ok (.iconst 1, 1) := dk_4 (dk_at dksL_law_46 7 rfl rfl)
theorem dL_law_1189 : decode cL_law 1189 = .ok (.iadd, 1) := dk_96 (dk_at dksL_law_46 8 rfl rfl)
theorem dL_law_1190 : decode cL_law 1190 = .ok (.iaload, 1) := dk_46 (dk_at dksL_law_46 9 rfl rfl)
theorem dL_law_1191 : decode cL_law 1191 = .ok (.aload_n 0, 1) := dk_42 (dk_at dksL_law_46 10 rfl rfl)
theorem dL_law_1192 : decode cL_law 1192 = .ok (.iload 4, 2) := dk_21 4 (dk_at dksL_law_46 11 rfl rfl)
theorem dL_law_1194 : decode cL_law 1194 = .ok (.iconst 2, 1) := dk_5 (dk_at dksL_law_46 13 rfl rfl)
theorem dL_law_1195 : decode cL_law 1195 = .ok (.iadd, 1) := dk_96 (dk_at dksL_law_46 14 rfl rfl)
theorem dL_law_1196 : decode cL_law 1196 = .ok (.iaload, 1) := dk_46 (dk_at dksL_law_46 15 rfl rfl)
theorem dL_law_1197 : decode cL_law 1197 = .ok (.aload_n 0, 1) := dk_42 (dk_at dksL_law_46 16 rfl rfl)
theorem dL_law_1198 : decode cL_law 1198 = .ok (.iload 4, 2) := dk_21 4 (dk_at dksL_law_46 17 rfl rfl)
theorem dL_law_1200 : decode cL_law 1200 = .ok (.iconst 3, 1) := dk_6 (dk_at dksL_law_46 19 rfl rfl)
theorem dL_law_1201 : decode cL_law 1201 = .ok (.iadd, 1) := dk_96 (dk_at dksL_law_46 20 rfl rfl)
theorem dL_law_1202 : decode cL_law 1202 = .ok (.iaload, 1) := dk_46 (dk_at dksL_law_46 21 rfl rfl)
theorem dL_law_1203 : decode cL_law 1203 = .ok (.aload_n 0, 1) := dk_42 (dk_at dksL_law_46 22 rfl rfl)
theorem dL_law_1204 : decode cL_law 1204 = .ok (.iload 4, 2) := dk_21 4 (dk_at dksL_law_47 0 rfl rfl)
theorem dL_law_1206 : decode cL_law 1206 = .ok (.iconst 4, 1) := dk_7 (dk_at dksL_law_47 2 rfl rfl)
theorem dL_law_1207 : decode cL_law 1207 = .ok (.iadd, 1) := dk_96 (dk_at dksL_law_47 3 rfl rfl)
theorem dL_law_1208 : decode cL_law 1208 = .ok (.iaload, 1) := dk_46 (dk_at dksL_law_47 4 rfl rfl)
theorem dL_law_1209 : decode cL_law 1209 = .ok (.aload_n 3, 1) := dk_45 (dk_at dksL_law_47 5 rfl rfl)
theorem dL_law_1210 : decode cL_law 1210 = .ok (.invokestatic 164, 3) := dk_184 0 164 (dk_at dksL_law_47 6 rfl rfl)
theorem dL_law_1213 : decode cL_law 1213 = .ok (.istore 5, 2) := dk_54 5 (dk_at dksL_law_47 9 rfl rfl)
theorem dL_law_1215 : decode cL_law 1215 = .ok (.aload_n 2, 1) := dk_44 (dk_at dksL_law_47 11 rfl rfl)
theorem dL_law_1216 : decode cL_law 1216 = .ok (.aload_n 0, 1) := dk_42 (dk_at dksL_law_47 12 rfl rfl)
theorem dL_law_1217 : decode cL_law 1217 = .ok (.iload 4, 2) := dk_21 4 (dk_at dksL_law_47 13 rfl rfl)
theorem dL_law_1219 : decode cL_law 1219 = .ok (.iconst 1, 1) := dk_4 (dk_at dksL_law_47 15 rfl rfl)
theorem dL_law_1220 : decode cL_law 1220 = .ok (.iadd, 1) := dk_96 (dk_at dksL_law_47 16 rfl rfl)
theorem dL_law_1221 : decode cL_law 1221 = .ok (.iaload, 1) := dk_46 (dk_at dksL_law_47 17 rfl rfl)
theorem dL_law_1222 : decode cL_law 1222 = .ok (.aload_n 0, 1) := dk_42 (dk_at dksL_law_47 18 rfl rfl)
theorem dL_law_1223 : decode cL_law 1223 = .ok (.iload 4, 2) := dk_21 4 (dk_at dksL_law_47 19 rfl rfl)
theorem dL_law_1225 : decode cL_law 1225 = .ok (.iconst 2, 1) := dk_5 (dk_at dksL_law_47 21 rfl rfl)
theorem dL_law_1226 : decode cL_law 1226 = .ok (.iadd, 1) := dk_96 (dk_at dksL_law_47 22 rfl rfl)
theorem dL_law_1227 : decode cL_law 1227 = .ok (.iaload, 1) := dk_46 (dk_at dksL_law_47 23 rfl rfl)
theorem dL_law_1228 : decode cL_law 1228 = .ok (.aload_n 0, 1) := dk_42 (dk_at dksL_law_48 0 rfl rfl)
theorem dL_law_1229 : decode cL_law 1229 = .ok (.iload 4, 2) := dk_21 4 (dk_at dksL_law_48 1 rfl rfl)
theorem dL_law_1231 : decode cL_law 1231 = .ok (.iconst 3, 1) := dk_6 (dk_at dksL_law_48 3 rfl rfl)
theorem dL_law_1232 : decode cL_law 1232 = .ok (.iadd, 1) := dk_96 (dk_at dksL_law_48 4 rfl rfl)
theorem dL_law_1233 : decode cL_law 1233 = .ok (.iaload, 1) := dk_46 (dk_at dksL_law_48 5 rfl rfl)
theorem dL_law_1234 : decode cL_law 1234 = .ok (.aload_n 0, 1) := dk_42 (dk_at dksL_law_48 6 rfl rfl)
theorem dL_law_1235 : decode cL_law 1235 = .ok (.iload 4, 2) := dk_21 4 (dk_at dksL_law_48 7 rfl rfl)
theorem dL_law_1237 : decode cL_law 1237 = .ok (.iconst 4, 1) := dk_7 (dk_at dksL_law_48 9 rfl rfl)
theorem dL_law_1238 : decode cL_law 1238 = .ok (.iadd, 1) := dk_96 (dk_at dksL_law_48 10 rfl rfl)
theorem dL_law_1239 : decode cL_law 1239 = .ok (.iaload, 1) := dk_46 (dk_at dksL_law_48 11 rfl rfl)
theorem dL_law_1240 : decode cL_law 1240 = .ok (.invokevirtual 166, 3) := dk_182 0 166 (dk_at dksL_law_48 12 rfl rfl)
theorem dL_law_1243 : decode cL_law 1243 = .ok (.istore 6, 2) := dk_54 6 (dk_at dksL_law_48 15 rfl rfl)
theorem dL_law_1245 : decode cL_law 1245 = .ok (.aload_n 2, 1) := dk_44 (dk_at dksL_law_48 17 rfl rfl)
theorem dL_law_1246 : decode cL_law 1246 = .ok (.invokevirtual 116, 3) := dk_182 0 116 (dk_at dksL_law_48 18 rfl rfl)
theorem dL_law_1249 : decode cL_law 1249 = .ok (.iload 5, 2) := dk_21 5 (dk_at dksL_law_48 21 rfl rfl)
theorem dL_law_1251 : decode cL_law 1251 = .ok (.if_icmp .eq 5, 3) := dk_159 0 5 (dk_at dksL_law_49 0 rfl rfl)
theorem dL_law_1254 : decode cL_law 1254 = .ok (.iconst 0, 1) := dk_3 (dk_at dksL_law_49 3 rfl rfl)
theorem dL_law_1255 : decode cL_law 1255 = .ok (.ireturn, 1) := dk_172 (dk_at dksL_law_49 4 rfl rfl)
theorem dL_law_1256 : decode cL_law 1256 = .ok (.iload 5, 2) := dk_21 5 (dk_at dksL_law_49 5 rfl rfl)
theorem dL_law_1258 : decode cL_law 1258 = .ok (.ifCond .ne 15, 3) := dk_154 0 15 (dk_at dksL_law_49 7 rfl rfl)
theorem dL_law_1261 : decode cL_law 1261 = .ok (.aload_n 3, 1) := dk_45 (dk_at dksL_law_49 10 rfl rfl)
theorem dL_law_1262 : decode cL_law 1262 = .ok (.iconst 0, 1) := dk_3 (dk_at dksL_law_49 11 rfl rfl)
theorem dL_law_1263 : decode cL_law 1263 = .ok (.laload, 1) := dk_47 (dk_at dksL_law_49 12 rfl rfl)
theorem dL_law_1264 : decode cL_law 1264 = .ok (.iload 6, 2) := dk_21 6 (dk_at dksL_law_49 13 rfl rfl)
theorem dL_law_1266 : decode cL_law 1266 = .ok (.i2l, 1) := dk_133 (dk_at dksL_law_49 15 rfl rfl)
theorem dL_law_1267 : decode cL_law 1267 = .ok (.lcmp, 1) := dk_148 (dk_at dksL_law_49 16 rfl rfl)
theorem dL_law_1268 : decode cL_law 1268 = .ok (.ifCond .eq 5, 3) := dk_153 0 5 (dk_at dksL_law_49 17 rfl rfl)
theorem dL_law_1271 : decode cL_law 1271 = .ok (.iconst 0, 1) := dk_3 (dk_at dksL_law_49 20 rfl rfl)
theorem dL_law_1272 : decode cL_law 1272 = .ok (.ireturn, 1) := dk_172 (dk_at dksL_law_49 21 rfl rfl)
theorem dL_law_1273 : decode cL_law 1273 = .ok (.goto 714, 3) := dk_167 2 202 (dk_at dksL_law_50 0 rfl rfl)
theorem dL_law_1276 : decode cL_law 1276 = .ok (.aload_n 1, 1) := dk_43 (dk_at dksL_law_50 3 rfl rfl)
theorem dL_law_1277 : decode cL_law 1277 = .ok (.aload_n 0, 1) := dk_42 (dk_at dksL_law_50 4 rfl rfl)
theorem dL_law_1278 : decode cL_law 1278 = .ok (.iload 4, 2) := dk_21 4 (dk_at dksL_law_50 5 rfl rfl)
theorem dL_law_1280 : decode cL_law 1280 = .ok (.iconst 1, 1) := dk_4 (dk_at dksL_law_50 7 rfl rfl)
theorem dL_law_1281 : decode cL_law 1281 = .ok (.iadd, 1) := dk_96 (dk_at dksL_law_50 8 rfl rfl)
theorem dL_law_1282 : decode cL_law 1282 = .ok (.iaload, 1) := dk_46 (dk_at dksL_law_50 9 rfl rfl)
theorem dL_law_1283 : decode cL_law 1283 = .ok (.aload_n 3, 1) := dk_45 (dk_at dksL_law_50 10 rfl rfl)
theorem dL_law_1284 : decode cL_law 1284 = .ok (.invokestatic 167, 3) := dk_184 0 167 (dk_at dksL_law_50 11 rfl rfl)
theorem dL_law_1287 : decode cL_law 1287 = .ok (.istore 5, 2) := dk_54 5 (dk_at dksL_law_50 14 rfl rfl)
theorem dL_law_1289 : decode cL_law 1289 = .ok (.aload_n 2, 1) := dk_44 (dk_at dksL_law_50 16 rfl rfl)
theorem dL_law_1290 : decode cL_law 1290 = .ok (.aload_n 0, 1) := dk_42 (dk_at dksL_law_50 17 rfl rfl)
theorem dL_law_1291 : decode cL_law 1291 = .ok (.iload 4, 2) := dk_21 4 (dk_at dksL_law_50 18 rfl rfl)
theorem dL_law_1293 : decode cL_law 1293 = .ok (.iconst 1, 1) := dk_4 (dk_at dksL_law_50 20 rfl rfl)
theorem dL_law_1294 : decode cL_law 1294 = .ok (.iadd, 1) := dk_96 (dk_at dksL_law_50 21 rfl rfl)
theorem dL_law_1295 : decode cL_law 1295 = .ok (.iaload, 1) := dk_46 (dk_at dksL_law_50 22 rfl rfl)
theorem dL_law_1296 : decode cL_law 1296 = .ok (.invokevirtual 169, 3) := dk_182 0 169 (dk_at dksL_law_51 0 rfl rfl)
theorem dL_law_1299 : decode cL_law 1299 = .ok (.istore 6, 2) := dk_54 6 (dk_at dksL_law_51 3 rfl rfl)
theorem dL_law_1301 : decode cL_law 1301 = .ok (.aload_n 2, 1) := dk_44 (dk_at dksL_law_51 5 rfl rfl)
theorem dL_law_1302 : decode cL_law 1302 = .ok (.invokevirtual 116, 3) := dk_182 0 116 (dk_at dksL_law_51 6 rfl rfl)
theorem dL_law_1305 : decode cL_law 1305 = .ok (.iload 5, 2) := dk_21 5 (dk_at dksL_law_51 9 rfl rfl)
theorem dL_law_1307 : decode cL_law 1307 = .ok (.if_icmp .eq 5, 3) := dk_159 0 5 (dk_at dksL_law_51 11 rfl rfl)
theorem dL_law_1310 : decode cL_law 1310 = .ok (.iconst 0, 1) := dk_3 (dk_at dksL_law_51 14 rfl rfl)
theorem dL_law_1311 : decode cL_law 1311 = .ok (.ireturn, 1) := dk_172 (dk_at dksL_law_51 15 rfl rfl)
theorem dL_law_1312 : decode cL_law 1312 = .ok (.iload 5, 2) := dk_21 5 (dk_at dksL_law_51 16 rfl rfl)
theorem dL_law_1314 : decode cL_law 1314 = .ok (.ifCond .ne 15, 3) := dk_154 0 15 (dk_at dksL_law_51 18 rfl rfl)
theorem dL_law_1317 : decode cL_law 1317 = .ok (.aload_n 3, 1) := dk_45 (dk_at dksL_law_51 21 rfl rfl)
theorem dL_law_1318 : decode cL_law 1318 = .ok (.iconst 0, 1) := dk_3 (dk_at dksL_law_51 22 rfl rfl)
theorem dL_law_1319 : decode cL_law 1319 = .ok (.laload, 1) := dk_47 (dk_at dksL_law_51 23 rfl rfl)
theorem dL_law_1320 : decode cL_law 1320 = .ok (.iload 6, 2) := dk_21 6 (dk_at dksL_law_52 0 rfl rfl)
theorem dL_law_1322 : decode cL_law 1322 = .ok (.i2l, 1) := dk_133 (dk_at dksL_law_52 2 rfl rfl)
theorem dL_law_1323 : decode cL_law 1323 = .ok (.lcmp, 1) := dk_148 (dk_at dksL_law_52 3 rfl rfl)
theorem dL_law_1324 : decode cL_law 1324 = .ok (.ifCond .eq 5, 3) := dk_153 0 5 (dk_at dksL_law_52 4 rfl rfl)
theorem dL_law_1327 : decode cL_law 1327 = .ok (.iconst 0, 1) := dk_3 (dk_at dksL_law_52 7 rfl rfl)
theorem dL_law_1328 : decode cL_law 1328 = .ok (.ireturn, 1) := dk_172 (dk_at dksL_law_52 8 rfl rfl)
theorem dL_law_1329 : decode cL_law 1329 = .ok (.goto 658, 3) := dk_167 2 146 (dk_at dksL_law_52 9 rfl rfl)
theorem dL_law_1332 : decode cL_law 1332 = .ok (.aload_n 1, 1) := dk_43 (dk_at dksL_law_52 12 rfl rfl)
theorem dL_law_1333 : decode cL_law 1333 = .ok (.aload_n 0, 1) := dk_42 (dk_at dksL_law_52 13 rfl rfl)
theorem dL_law_1334 : decode cL_law 1334 = .ok (.iload 4, 2) := dk_21 4 (dk_at dksL_law_52 14 rfl rfl)
theorem dL_law_1336 : decode cL_law 1336 = .ok (.iconst 1, 1) := dk_4 (dk_at dksL_law_52 16 rfl rfl)
theorem dL_law_1337 : decode cL_law 1337 = .ok (.iadd, 1) := dk_96 (dk_at dksL_law_52 17 rfl rfl)
theorem dL_law_1338 : decode cL_law 1338 = .ok (.iaload, 1) := dk_46 (dk_at dksL_law_52 18 rfl rfl)
theorem dL_law_1339 : decode cL_law 1339 = .ok (.aload_n 3, 1) := dk_45 (dk_at dksL_law_52 19 rfl rfl)
theorem dL_law_1340 : decode cL_law 1340 = .ok (.invokestatic 170, 3) := dk_184 0 170 (dk_at dksL_law_52 20 rfl rfl)
theorem dL_law_1343 : decode cL_law 1343 = .ok (.istore 5, 2) := dk_54 5 (dk_at dksL_law_53 0 rfl rfl)
theorem dL_law_1345 : decode cL_law 1345 = .ok (.aload_n 2, 1) := dk_44 (dk_at dksL_law_53 2 rfl rfl)
theorem dL_law_1346 : decode cL_law 1346 = .ok (.aload_n 0, 1) := dk_42 (dk_at dksL_law_53 3 rfl rfl)
theorem dL_law_1347 : decode cL_law 1347 = .ok (.iload 4, 2) := dk_21 4 (dk_at dksL_law_53 4 rfl rfl)
theorem dL_law_1349 : decode cL_law 1349 = .ok (.iconst 1, 1) := dk_4 (dk_at dksL_law_53 6 rfl rfl)
theorem dL_law_1350 : decode cL_law 1350 = .ok (.iadd, 1) := dk_96 (dk_at dksL_law_53 7 rfl rfl)
theorem dL_law_1351 : decode cL_law 1351 = .ok (.iaload, 1) := dk_46 (dk_at dksL_law_53 8 rfl rfl)
theorem dL_law_1352 : decode cL_law 1352 = .ok (.invokevirtual 172, 3) := dk_182 0 172 (dk_at dksL_law_53 9 rfl rfl)
theorem dL_law_1355 : decode cL_law 1355 = .ok (.istore 6, 2) := dk_54 6 (dk_at dksL_law_53 12 rfl rfl)
theorem dL_law_1357 : decode cL_law 1357 = .ok (.aload_n 2, 1) := dk_44 (dk_at dksL_law_53 14 rfl rfl)
theorem dL_law_1358 : decode cL_law 1358 = .ok (.invokevirtual 116, 3) := dk_182 0 116 (dk_at dksL_law_53 15 rfl rfl)
theorem dL_law_1361 : decode cL_law 1361 = .ok (.iload 5, 2) := dk_21 5 (dk_at dksL_law_53 18 rfl rfl)
theorem dL_law_1363 : decode cL_law 1363 = .ok (.if_icmp .eq 5, 3) := dk_159 0 5 (dk_at dksL_law_53 20 rfl rfl)
theorem dL_law_1366 : decode cL_law 1366 = .ok (.iconst 0, 1) := dk_3 (dk_at dksL_law_53 23 rfl rfl)
theorem dL_law_1367 : decode cL_law 1367 = .ok (.ireturn, 1) := dk_172 (dk_at dksL_law_54 0 rfl rfl)
theorem dL_law_1368 : decode cL_law 1368 = .ok (.iload 5, 2) := dk_21 5 (dk_at dksL_law_54 1 rfl rfl)
theorem dL_law_1370 : decode cL_law 1370 = .ok (.ifCond .ne 15, 3) := dk_154 0 15 (dk_at dksL_law_54 3 rfl rfl)
theorem dL_law_1373 : decode cL_law 1373 = .ok (.aload_n 3, 1) := dk_45 (dk_at dksL_law_54 6 rfl rfl)
theorem dL_law_1374 : decode cL_law 1374 = .ok (.iconst 0, 1) := dk_3 (dk_at dksL_law_54 7 rfl rfl)
theorem dL_law_1375 : decode cL_law 1375 = .ok (.laload, 1) := dk_47 (dk_at dksL_law_54 8 rfl rfl)
theorem dL_law_1376 : decode cL_law 1376 = .ok (.iload 6, 2) := dk_21 6 (dk_at dksL_law_54 9 rfl rfl)
theorem dL_law_1378 : decode cL_law 1378 = .ok (.i2l, 1) := dk_133 (dk_at dksL_law_54 11 rfl rfl)
theorem dL_law_1379 : decode cL_law 1379 = .ok (.lcmp, 1) := dk_148 (dk_at dksL_law_54 12 rfl rfl)
theorem dL_law_1380 : decode cL_law 1380 = .ok (.ifCond .eq 5, 3) := dk_153 0 5 (dk_at dksL_law_54 13 rfl rfl)
theorem dL_law_1383 : decode cL_law 1383 = .ok (.iconst 0, 1) := dk_3 (dk_at dksL_law_54 16 rfl rfl)
theorem dL_law_1384 : decode cL_law 1384 = .ok (.ireturn, 1) := dk_172 (dk_at dksL_law_54 17 rfl rfl)
theorem dL_law_1385 : decode cL_law 1385 = .ok (.goto 602, 3) := dk_167 2 90 (dk_at dksL_law_54 18 rfl rfl)
theorem dL_law_1388 : decode cL_law 1388 = .ok (.aload_n 1, 1) := dk_43 (dk_at dksL_law_54 21 rfl rfl)
theorem dL_law_1389 : decode cL_law 1389 = .ok (.invokevirtual 173, 3) := dk_182 0 173 (dk_at dksL_law_55 0 rfl rfl)
theorem dL_law_1392 : decode cL_law 1392 = .ok (.aload_n 2, 1) := dk_44 (dk_at dksL_law_55 3 rfl rfl)
theorem dL_law_1393 : decode cL_law 1393 = .ok (.invokevirtual 176, 3) := dk_182 0 176 (dk_at dksL_law_55 4 rfl rfl)
theorem dL_law_1396 : decode cL_law 1396 = .ok (.if_icmp .eq 591, 3) := dk_159 2 79 (dk_at dksL_law_55 7 rfl rfl)
theorem dL_law_1399 : decode cL_law 1399 = .ok (.iconst 0, 1) := dk_3 (dk_at dksL_law_55 10 rfl rfl)
theorem dL_law_1400 : decode cL_law 1400 = .ok (.ireturn, 1) := dk_172 (dk_at dksL_law_55 11 rfl rfl)
theorem dL_law_1401 : decode cL_law 1401 = .ok (.aload_n 1, 1) := dk_43 (dk_at dksL_law_55 12 rfl rfl)
theorem dL_law_1402 : decode cL_law 1402 = .ok (.aload_n 0, 1) := dk_42 (dk_at dksL_law_55 13 rfl rfl)
theorem dL_law_1403 : decode cL_law 1403 = .ok (.iload 4, 2) := dk_21 4 (dk_at dksL_law_55 14 rfl rfl)
theorem dL_law_1405 : decode cL_law 1405 = .ok (.iconst 1, 1) := dk_4 (dk_at dksL_law_55 16 rfl rfl)
theorem dL_law_1406 : decode cL_law 1406 = .ok (.iadd, 1) := dk_96 (dk_at dksL_law_55 17 rfl rfl)
theorem dL_law_1407 : decode cL_law 1407 = .ok (.iaload, 1) := dk_46 (dk_at dksL_law_55 18 rfl rfl)
theorem dL_law_1408 : decode cL_law 1408 = .ok (.aload_n 3, 1) := dk_45 (dk_at dksL_law_55 19 rfl rfl)
theorem dL_law_1409 : decode cL_law 1409 = .ok (.invokestatic 177, 3) := dk_184 0 177 (dk_at dksL_law_55 20 rfl rfl)
theorem dL_law_1412 : decode cL_law 1412 = .ok (.istore 5, 2) := dk_54 5 (dk_at dksL_law_56 0 rfl rfl)
theorem dL_law_1414 : decode cL_law 1414 = .ok (.aload_n 2, 1) := dk_44 (dk_at dksL_law_56 2 rfl rfl)
theorem dL_law_1415 : decode cL_law 1415 = .ok (.aload_n 0, 1) := dk_42 (dk_at dksL_law_56 3 rfl rfl)
theorem dL_law_1416 : decode cL_law 1416 = .ok (.iload 4, 2) := dk_21 4 (dk_at dksL_law_56 4 rfl rfl)
theorem dL_law_1418 : decode cL_law 1418 = .ok (.iconst 1, 1) := dk_4 (dk_at dksL_law_56 6 rfl rfl)
theorem dL_law_1419 : decode cL_law 1419 = .ok (.iadd, 1) := dk_96 (dk_at dksL_law_56 7 rfl rfl)
theorem dL_law_1420 : decode cL_law 1420 = .ok (.iaload, 1) := dk_46 (dk_at dksL_law_56 8 rfl rfl)
theorem dL_law_1421 : decode cL_law 1421 = .ok (.invokevirtual 179, 3) := dk_182 0 179 (dk_at dksL_law_56 9 rfl rfl)
theorem dL_law_1424 : decode cL_law 1424 = .ok (.istore 6, 2) := dk_54 6 (dk_at dksL_law_56 12 rfl rfl)
theorem dL_law_1426 : decode cL_law 1426 = .ok (.aload_n 2, 1) := dk_44 (dk_at dksL_law_56 14 rfl rfl)
theorem dL_law_1427 : decode cL_law 1427 = .ok (.invokevirtual 116, 3) := dk_182 0 116 (dk_at dksL_law_56 15 rfl rfl)
theorem dL_law_1430 : decode cL_law 1430 = .ok (.iload 5, 2) := dk_21 5 (dk_at dksL_law_56 18 rfl rfl)
theorem dL_law_1432 : decode cL_law 1432 = .ok (.if_icmp .eq 5, 3) := dk_159 0 5 (dk_at dksL_law_56 20 rfl rfl)
theorem dL_law_1435 : decode cL_law 1435 = .ok (.iconst 0, 1) := dk_3 (dk_at dksL_law_56 23 rfl rfl)
theorem dL_law_1436 : decode cL_law 1436 = .ok (.ireturn, 1) := dk_172 (dk_at dksL_law_57 0 rfl rfl)
theorem dL_law_1437 : decode cL_law 1437 = .ok (.iload 5, 2) := dk_21 5 (dk_at dksL_law_57 1 rfl rfl)
theorem dL_law_1439 : decode cL_law 1439 = .ok (.ifCond .ne 15, 3) := dk_154 0 15 (dk_at dksL_law_57 3 rfl rfl)
theorem dL_law_1442 : decode cL_law 1442 = .ok (.aload_n 3, 1) := dk_45 (dk_at dksL_law_57 6 rfl rfl)
theorem dL_law_1443 : decode cL_law 1443 = .ok (.iconst 0, 1) := dk_3 (dk_at dksL_law_57 7 rfl rfl)
theorem dL_law_1444 : decode cL_law 1444 = .ok (.laload, 1) := dk_47 (dk_at dksL_law_57 8 rfl rfl)
theorem dL_law_1445 : decode cL_law 1445 = .ok (.iload 6, 2) := dk_21 6 (dk_at dksL_law_57 9 rfl rfl)
theorem dL_law_1447 : decode cL_law 1447 = .ok (.i2l, 1) := dk_133 (dk_at dksL_law_57 11 rfl rfl)
theorem dL_law_1448 : decode cL_law 1448 = .ok (.lcmp, 1) := dk_148 (dk_at dksL_law_57 12 rfl rfl)
theorem dL_law_1449 : decode cL_law 1449 = .ok (.ifCond .eq 5, 3) := dk_153 0 5 (dk_at dksL_law_57 13 rfl rfl)
theorem dL_law_1452 : decode cL_law 1452 = .ok (.iconst 0, 1) := dk_3 (dk_at dksL_law_57 16 rfl rfl)
theorem dL_law_1453 : decode cL_law 1453 = .ok (.ireturn, 1) := dk_172 (dk_at dksL_law_57 17 rfl rfl)
theorem dL_law_1454 : decode cL_law 1454 = .ok (.goto 533, 3) := dk_167 2 21 (dk_at dksL_law_57 18 rfl rfl)
theorem dL_law_1457 : decode cL_law 1457 = .ok (.aload_n 1, 1) := dk_43 (dk_at dksL_law_57 21 rfl rfl)
theorem dL_law_1458 : decode cL_law 1458 = .ok (.aload_n 0, 1) := dk_42 (dk_at dksL_law_57 22 rfl rfl)
theorem dL_law_1459 : decode cL_law 1459 = .ok (.iload 4, 2) := dk_21 4 (dk_at dksL_law_58 0 rfl rfl)
theorem dL_law_1461 : decode cL_law 1461 = .ok (.iconst 1, 1) := dk_4 (dk_at dksL_law_58 2 rfl rfl)
theorem dL_law_1462 : decode cL_law 1462 = .ok (.iadd, 1) := dk_96 (dk_at dksL_law_58 3 rfl rfl)
theorem dL_law_1463 : decode cL_law 1463 = .ok (.iaload, 1) := dk_46 (dk_at dksL_law_58 4 rfl rfl)
theorem dL_law_1464 : decode cL_law 1464 = .ok (.aload_n 0, 1) := dk_42 (dk_at dksL_law_58 5 rfl rfl)
theorem dL_law_1465 : decode cL_law 1465 = .ok (.iload 4, 2) := dk_21 4 (dk_at dksL_law_58 6 rfl rfl)
theorem dL_law_1467 : decode cL_law 1467 = .ok (.iconst 2, 1) := dk_5 (dk_at dksL_law_58 8 rfl rfl)
theorem dL_law_1468 : decode cL_law 1468 = .ok (.iadd, 1) := dk_96 (dk_at dksL_law_58 9 rfl rfl)
theorem dL_law_1469 : decode cL_law 1469 = .ok (.iaload, 1) := dk_46 (dk_at dksL_law_58 10 rfl rfl)
theorem dL_law_1470 : decode cL_law 1470 = .ok (.ifCond .eq 7, 3) := dk_153 0 7 (dk_at dksL_law_58 11 rfl rfl)
theorem dL_law_1473 : decode cL_law 1473 = .ok (.iconst 1, 1) := dk_4 (dk_at dksL_law_58 14 rfl rfl)
theorem dL_law_1474 : decode cL_law 1474 = .ok (.goto 4, 3) := dk_167 0 4 (dk_at dksL_law_58 15 rfl rfl)
theorem dL_law_1477 : decode cL_law 1477 = .ok (.iconst 0, 1) := dk_3 (dk_at dksL_law_58 18 rfl rfl)
theorem dL_law_1478 : decode cL_law 1478 = .ok (.aload_n 3, 1) := dk_45 (dk_at dksL_law_58 19 rfl rfl)
theorem dL_law_1479 : decode cL_law 1479 = .ok (.invokestatic 180, 3) := dk_184 0 180 (dk_at dksL_law_58 20 rfl rfl)
theorem dL_law_1482 : decode cL_law 1482 = .ok (.istore 5, 2) := dk_54 5 (dk_at dksL_law_59 0 rfl rfl)
theorem dL_law_1484 : decode cL_law 1484 = .ok (.aload_n 2, 1) := dk_44 (dk_at dksL_law_59 2 rfl rfl)
theorem dL_law_1485 : decode cL_law 1485 = .ok (.aload_n 0, 1) := dk_42 (dk_at dksL_law_59 3 rfl rfl)
theorem dL_law_1486 : decode cL_law 1486 = .ok (.iload 4, 2) := dk_21 4 (dk_at dksL_law_59 4 rfl rfl)
theorem dL_law_1488 : decode cL_law 1488 = .ok (.iconst 1, 1) := dk_4 (dk_at dksL_law_59 6 rfl rfl)
theorem dL_law_1489 : decode cL_law 1489 = .ok (.iadd, 1) := dk_96 (dk_at dksL_law_59 7 rfl rfl)
theorem dL_law_1490 : decode cL_law 1490 = .ok (.iaload, 1) := dk_46 (dk_at dksL_law_59 8 rfl rfl)
theorem dL_law_1491 : decode cL_law 1491 = .ok (.aload_n 0, 1) := dk_42 (dk_at dksL_law_59 9 rfl rfl)
theorem dL_law_1492 : decode cL_law 1492 = .ok (.iload 4, 2) := dk_21 4 (dk_at dksL_law_59 10 rfl rfl)
theorem dL_law_1494 : decode cL_law 1494 = .ok (.iconst 2, 1) := dk_5 (dk_at dksL_law_59 12 rfl rfl)
theorem dL_law_1495 : decode cL_law 1495 = .ok (.iadd, 1) := dk_96 (dk_at dksL_law_59 13 rfl rfl)
theorem dL_law_1496 : decode cL_law 1496 = .ok (.iaload, 1) := dk_46 (dk_at dksL_law_59 14 rfl rfl)
theorem dL_law_1497 : decode cL_law 1497 = .ok (.ifCond .eq 7, 3) := dk_153 0 7 (dk_at dksL_law_59 15 rfl rfl)
theorem dL_law_1500 : decode cL_law 1500 = .ok (.iconst 1, 1) := dk_4 (dk_at dksL_law_59 18 rfl rfl)
theorem dL_law_1501 : decode cL_law 1501 = .ok (.goto 4, 3) := dk_167 0 4 (dk_at dksL_law_59 19 rfl rfl)
theorem dL_law_1504 : decode cL_law 1504 = .ok (.iconst 0, 1) := dk_3 (dk_at dksL_law_59 22 rfl rfl)
theorem dL_law_1505 : decode cL_law 1505 = .ok (.invokevirtual 183, 3) := dk_182 0 183 (dk_at dksL_law_60 0 rfl rfl)
theorem dL_law_1508 : decode cL_law 1508 = .ok (.istore 6, 2) := dk_54 6 (dk_at dksL_law_60 3 rfl rfl)
theorem dL_law_1510 : decode cL_law 1510 = .ok (.aload_n 2, 1) := dk_44 (dk_at dksL_law_60 5 rfl rfl)
theorem dL_law_1511 : decode cL_law 1511 = .ok (.invokevirtual 116, 3) := dk_182 0 116 (dk_at dksL_law_60 6 rfl rfl)
theorem dL_law_1514 : decode cL_law 1514 = .ok (.iload 5, 2) := dk_21 5 (dk_at dksL_law_60 9 rfl rfl)
theorem dL_law_1516 : decode cL_law 1516 = .ok (.if_icmp .eq 5, 3) := dk_159 0 5 (dk_at dksL_law_60 11 rfl rfl)
theorem dL_law_1519 : decode cL_law 1519 = .ok (.iconst 0, 1) := dk_3 (dk_at dksL_law_60 14 rfl rfl)
theorem dL_law_1520 : decode cL_law 1520 = .ok (.ireturn, 1) := dk_172 (dk_at dksL_law_60 15 rfl rfl)
theorem dL_law_1521 : decode cL_law 1521 = .ok (.iload 5, 2) := dk_21 5 (dk_at dksL_law_60 16 rfl rfl)
theorem dL_law_1523 : decode cL_law 1523 = .ok (.ifCond .ne 15, 3) := dk_154 0 15 (dk_at dksL_law_60 18 rfl rfl)
theorem dL_law_1526 : decode cL_law 1526 = .ok (.aload_n 3, 1) := dk_45 (dk_at dksL_law_60 21 rfl rfl)
theorem dL_law_1527 : decode cL_law 1527 = .ok (.iconst 0, 1) := dk_3 (dk_at dksL_law_60 22 rfl rfl)
theorem dL_law_1528 : decode cL_law 1528 = .ok (.laload, 1) := dk_47 (dk_at dksL_law_60 23 rfl rfl)
theorem dL_law_1529 : decode cL_law 1529 = .ok (.iload 6, 2) := dk_21 6 (dk_at dksL_law_61 0 rfl rfl)
theorem dL_law_1531 : decode cL_law 1531 = .ok (.i2l, 1) := dk_133 (dk_at dksL_law_61 2 rfl rfl)
theorem dL_law_1532 : decode cL_law 1532 = .ok (.lcmp, 1) := dk_148 (dk_at dksL_law_61 3 rfl rfl)
theorem dL_law_1533 : decode cL_law 1533 = .ok (.ifCond .eq 5, 3) := dk_153 0 5 (dk_at dksL_law_61 4 rfl rfl)
theorem dL_law_1536 : decode cL_law 1536 = .ok (.iconst 0, 1) := dk_3 (dk_at dksL_law_61 7 rfl rfl)
theorem dL_law_1537 : decode cL_law 1537 = .ok (.ireturn, 1) := dk_172 (dk_at dksL_law_61 8 rfl rfl)
theorem dL_law_1538 : decode cL_law 1538 = .ok (.goto 449, 3) := dk_167 1 193 (dk_at dksL_law_61 9 rfl rfl)
theorem dL_law_1541 : decode cL_law 1541 = .ok (.aload_n 1, 1) := dk_43 (dk_at dksL_law_61 12 rfl rfl)
theorem dL_law_1542 : decode cL_law 1542 = .ok (.aload_n 0, 1) := dk_42 (dk_at dksL_law_61 13 rfl rfl)
theorem dL_law_1543 : decode cL_law 1543 = .ok (.iload 4, 2) := dk_21 4 (dk_at dksL_law_61 14 rfl rfl)
theorem dL_law_1545 : decode cL_law 1545 = .ok (.iconst 1, 1) := dk_4 (dk_at dksL_law_61 16 rfl rfl)
theorem dL_law_1546 : decode cL_law 1546 = .ok (.iadd, 1) := dk_96 (dk_at dksL_law_61 17 rfl rfl)
theorem dL_law_1547 : decode cL_law 1547 = .ok (.iaload, 1) := dk_46 (dk_at dksL_law_61 18 rfl rfl)
theorem dL_law_1548 : decode cL_law 1548 = .ok (.aload_n 3, 1) := dk_45 (dk_at dksL_law_61 19 rfl rfl)
theorem dL_law_1549 : decode cL_law 1549 = .ok (.invokestatic 184, 3) := dk_184 0 184 (dk_at dksL_law_61 20 rfl rfl)
theorem dL_law_1552 : decode cL_law 1552 = .ok (.istore 5, 2) := dk_54 5 (dk_at dksL_law_62 0 rfl rfl)
theorem dL_law_1554 : decode cL_law 1554 = .ok (.aload_n 2, 1) := dk_44 (dk_at dksL_law_62 2 rfl rfl)
theorem dL_law_1555 : decode cL_law 1555 = .ok (.aload_n 0, 1) := dk_42 (dk_at dksL_law_62 3 rfl rfl)
theorem dL_law_1556 : decode cL_law 1556 = .ok (.iload 4, 2) := dk_21 4 (dk_at dksL_law_62 4 rfl rfl)
theorem dL_law_1558 : decode cL_law 1558 = .ok (.iconst 1, 1) := dk_4 (dk_at dksL_law_62 6 rfl rfl)
theorem dL_law_1559 : decode cL_law 1559 = .ok (.iadd, 1) := dk_96 (dk_at dksL_law_62 7 rfl rfl)
theorem dL_law_1560 : decode cL_law 1560 = .ok (.iaload, 1) := dk_46 (dk_at dksL_law_62 8 rfl rfl)
theorem dL_law_1561 : decode cL_law 1561 = .ok (.invokevirtual 186, 3) := dk_182 0 186 (dk_at dksL_law_62 9 rfl rfl)
theorem dL_law_1564 : decode cL_law 1564 = .ok (.istore 6, 2) := dk_54 6 (dk_at dksL_law_62 12 rfl rfl)
theorem dL_law_1566 : decode cL_law 1566 = .ok (.aload_n 2, 1) := dk_44 (dk_at dksL_law_62 14 rfl rfl)
theorem dL_law_1567 : decode cL_law 1567 = .ok (.invokevirtual 116, 3) := dk_182 0 116 (dk_at dksL_law_62 15 rfl rfl)
theorem dL_law_1570 : decode cL_law 1570 = .ok (.iload 5, 2) := dk_21 5 (dk_at dksL_law_62 18 rfl rfl)
theorem dL_law_1572 : decode cL_law 1572 = .ok (.if_icmp .eq 5, 3) := dk_159 0 5 (dk_at dksL_law_62 20 rfl rfl)
theorem dL_law_1575 : decode cL_law 1575 = .ok (.iconst 0, 1) := dk_3 (dk_at dksL_law_62 23 rfl rfl)
theorem dL_law_1576 : decode cL_law 1576 = .ok (.ireturn, 1) := dk_172 (dk_at dksL_law_63 0 rfl rfl)
theorem dL_law_1577 : decode cL_law 1577 = .ok (.iload 5, 2) := dk_21 5 (dk_at dksL_law_63 1 rfl rfl)
theorem dL_law_1579 : decode cL_law 1579 = .ok (.ifCond .ne 15, 3) := dk_154 0 15 (dk_at dksL_law_63 3 rfl rfl)
theorem dL_law_1582 : decode cL_law 1582 = .ok (.aload_n 3, 1) := dk_45 (dk_at dksL_law_63 6 rfl rfl)
theorem dL_law_1583 : decode cL_law 1583 = .ok (.iconst 0, 1) := dk_3 (dk_at dksL_law_63 7 rfl rfl)
theorem dL_law_1584 : decode cL_law 1584 = .ok (.laload, 1) := dk_47 (dk_at dksL_law_63 8 rfl rfl)
theorem dL_law_1585 : decode cL_law 1585 = .ok (.iload 6, 2) := dk_21 6 (dk_at dksL_law_63 9 rfl rfl)
theorem dL_law_1587 : decode cL_law 1587 = .ok (.i2l, 1) := dk_133 (dk_at dksL_law_63 11 rfl rfl)
theorem dL_law_1588 : decode cL_law 1588 = .ok (.lcmp, 1) := dk_148 (dk_at dksL_law_63 12 rfl rfl)
theorem dL_law_1589 : decode cL_law 1589 = .ok (.ifCond .eq 5, 3) := dk_153 0 5 (dk_at dksL_law_63 13 rfl rfl)
theorem dL_law_1592 : decode cL_law 1592 = .ok (.iconst 0, 1) := dk_3 (dk_at dksL_law_63 16 rfl rfl)
theorem dL_law_1593 : decode cL_law 1593 = .ok (.ireturn, 1) := dk_172 (dk_at dksL_law_63 17 rfl rfl)
theorem dL_law_1594 : decode cL_law 1594 = .ok (.goto 393, 3) := dk_167 1 137 (dk_at dksL_law_63 18 rfl rfl)
theorem dL_law_1597 : decode cL_law 1597 = .ok (.aload_n 1, 1) := dk_43 (dk_at dksL_law_63 21 rfl rfl)
theorem dL_law_1598 : decode cL_law 1598 = .ok (.aload_n 0, 1) := dk_42 (dk_at dksL_law_63 22 rfl rfl)
theorem dL_law_1599 : decode cL_law 1599 = .ok (.iload 4, 2) := dk_21 4 (dk_at dksL_law_64 0 rfl rfl)
theorem dL_law_1601 : decode cL_law 1601 = .ok (.iconst 1, 1) := dk_4 (dk_at dksL_law_64 2 rfl rfl)
theorem dL_law_1602 : decode cL_law 1602 = .ok (.iadd, 1) := dk_96 (dk_at dksL_law_64 3 rfl rfl)
theorem dL_law_1603 : decode cL_law 1603 = .ok (.iaload, 1) := dk_46 (dk_at dksL_law_64 4 rfl rfl)
theorem dL_law_1604 : decode cL_law 1604 = .ok (.aload_n 3, 1) := dk_45 (dk_at dksL_law_64 5 rfl rfl)
theorem dL_law_1605 : decode cL_law 1605 = .ok (.invokestatic 187, 3) := dk_184 0 187 (dk_at dksL_law_64 6 rfl rfl)
theorem dL_law_1608 : decode cL_law 1608 = .ok (.istore 5, 2) := dk_54 5 (dk_at dksL_law_64 9 rfl rfl)
theorem dL_law_1610 : decode cL_law 1610 = .ok (.aload_n 2, 1) := dk_44 (dk_at dksL_law_64 11 rfl rfl)
theorem dL_law_1611 : decode cL_law 1611 = .ok (.aload_n 0, 1) := dk_42 (dk_at dksL_law_64 12 rfl rfl)
theorem dL_law_1612 : decode cL_law 1612 = .ok (.iload 4, 2) := dk_21 4 (dk_at dksL_law_64 13 rfl rfl)
theorem dL_law_1614 : decode cL_law 1614 = .ok (.iconst 1, 1) := dk_4 (dk_at dksL_law_64 15 rfl rfl)
theorem dL_law_1615 : decode cL_law 1615 = .ok (.iadd, 1) := dk_96 (dk_at dksL_law_64 16 rfl rfl)
theorem dL_law_1616 : decode cL_law 1616 = .ok (.iaload, 1) := dk_46 (dk_at dksL_law_64 17 rfl rfl)
theorem dL_law_1617 : decode cL_law 1617 = .ok (.invokevirtual 189, 3) := dk_182 0 189 (dk_at dksL_law_64 18 rfl rfl)
theorem dL_law_1620 : decode cL_law 1620 = .ok (.istore 6, 2) := dk_54 6 (dk_at dksL_law_64 21 rfl rfl)
theorem dL_law_1622 : decode cL_law 1622 = .ok (.aload_n 2, 1) := dk_44 (dk_at dksL_law_64 23 rfl rfl)
theorem dL_law_1623 : decode cL_law 1623 = .ok (.invokevirtual 116, 3) := dk_182 0 116 (dk_at dksL_law_65 0 rfl rfl)
theorem dL_law_1626 : decode cL_law 1626 = .ok (.iload 5, 2) := dk_21 5 (dk_at dksL_law_65 3 rfl rfl)
theorem dL_law_1628 : decode cL_law 1628 = .ok (.if_icmp .eq 5, 3) := dk_159 0 5 (dk_at dksL_law_65 5 rfl rfl)
theorem dL_law_1631 : decode cL_law 1631 = .ok (.iconst 0, 1) := dk_3 (dk_at dksL_law_65 8 rfl rfl)
theorem dL_law_1632 : decode cL_law 1632 = .ok (.ireturn, 1) := dk_172 (dk_at dksL_law_65 9 rfl rfl)
theorem dL_law_1633 : decode cL_law 1633 = .ok (.iload 5, 2) := dk_21 5 (dk_at dksL_law_65 10 rfl rfl)
theorem dL_law_1635 : decode cL_law 1635 = .ok (.ifCond .ne 15, 3) := dk_154 0 15 (dk_at dksL_law_65 12 rfl rfl)
theorem dL_law_1638 : decode cL_law 1638 = .ok (.aload_n 3, 1) := dk_45 (dk_at dksL_law_65 15 rfl rfl)
theorem dL_law_1639 : decode cL_law 1639 = .ok (.iconst 0, 1) := dk_3 (dk_at dksL_law_65 16 rfl rfl)
theorem dL_law_1640 : decode cL_law 1640 = .ok (.laload, 1) := dk_47 (dk_at dksL_law_65 17 rfl rfl)
theorem dL_law_1641 : decode cL_law 1641 = .ok (.iload 6, 2) := dk_21 6 (dk_at dksL_law_65 18 rfl rfl)
theorem dL_law_1643 : decode cL_law 1643 = .ok (.i2l, 1) := dk_133 (dk_at dksL_law_65 20 rfl rfl)
theorem dL_law_1644 : decode cL_law 1644 = .ok (.lcmp, 1) := dk_148 (dk_at dksL_law_65 21 rfl rfl)
theorem dL_law_1645 : decode cL_law 1645 = .ok (.ifCond .eq 5, 3) := dk_153 0 5 (dk_at dksL_law_66 0 rfl rfl)
theorem dL_law_1648 : decode cL_law 1648 = .ok (.iconst 0, 1) := dk_3 (dk_at dksL_law_66 3 rfl rfl)
theorem dL_law_1649 : decode cL_law 1649 = .ok (.ireturn, 1) := dk_172 (dk_at dksL_law_66 4 rfl rfl)
theorem dL_law_1650 : decode cL_law 1650 = .ok (.goto 337, 3) := dk_167 1 81 (dk_at dksL_law_66 5 rfl rfl)
theorem dL_law_1653 : decode cL_law 1653 = .ok (.aload_n 1, 1) := dk_43 (dk_at dksL_law_66 8 rfl rfl)
theorem dL_law_1654 : decode cL_law 1654 = .ok (.aload_n 0, 1) := dk_42 (dk_at dksL_law_66 9 rfl rfl)
theorem dL_law_1655 : decode cL_law 1655 = .ok (.iload 4, 2) := dk_21 4 (dk_at dksL_law_66 10 rfl rfl)
theorem dL_law_1657 : decode cL_law 1657 = .ok (.iconst 1, 1) := dk_4 (dk_at dksL_law_66 12 rfl rfl)
theorem dL_law_1658 : decode cL_law 1658 = .ok (.iadd, 1) := dk_96 (dk_at dksL_law_66 13 rfl rfl)
theorem dL_law_1659 : decode cL_law 1659 = .ok (.iaload, 1) := dk_46 (dk_at dksL_law_66 14 rfl rfl)
theorem dL_law_1660 : decode cL_law 1660 = .ok (.aload_n 3, 1) := dk_45 (dk_at dksL_law_66 15 rfl rfl)
theorem dL_law_1661 : decode cL_law 1661 = .ok (.invokestatic 190, 3) := dk_184 0 190 (dk_at dksL_law_66 16 rfl rfl)
theorem dL_law_1664 : decode cL_law 1664 = .ok (.istore 5, 2) := dk_54 5 (dk_at dksL_law_66 19 rfl rfl)
theorem dL_law_1666 : decode cL_law 1666 = .ok (.aload_n 2, 1) := dk_44 (dk_at dksL_law_66 21 rfl rfl)
theorem dL_law_1667 : decode cL_law 1667 = .ok (.aload_n 0, 1) := dk_42 (dk_at dksL_law_66 22 rfl rfl)
theorem dL_law_1668 : decode cL_law 1668 = .ok (.iload 4, 2) := dk_21 4 (dk_at dksL_law_67 0 rfl rfl)
theorem dL_law_1670 : decode cL_law 1670 = .ok (.iconst 1, 1) := dk_4 (dk_at dksL_law_67 2 rfl rfl)
theorem dL_law_1671 : decode cL_law 1671 = .ok (.iadd, 1) := dk_96 (dk_at dksL_law_67 3 rfl rfl)
theorem dL_law_1672 : decode cL_law 1672 = .ok (.iaload, 1) := dk_46 (dk_at dksL_law_67 4 rfl rfl)
theorem dL_law_1673 : decode cL_law 1673 = .ok (.invokevirtual 192, 3) := dk_182 0 192 (dk_at dksL_law_67 5 rfl rfl)
theorem dL_law_1676 : decode cL_law 1676 = .ok (.istore 6, 2) := dk_54 6 (dk_at dksL_law_67 8 rfl rfl)
theorem dL_law_1678 : decode cL_law 1678 = .ok (.aload_n 2, 1) := dk_44 (dk_at dksL_law_67 10 rfl rfl)
theorem dL_law_1679 : decode cL_law 1679 = .ok (.invokevirtual 116, 3) := dk_182 0 116 (dk_at dksL_law_67 11 rfl rfl)
theorem dL_law_1682 : decode cL_law 1682 = .ok (.iload 5, 2) := dk_21 5 (dk_at dksL_law_67 14 rfl rfl)
theorem dL_law_1684 : decode cL_law 1684 = .ok (.if_icmp .eq 5, 3) := dk_159 0 5 (dk_at dksL_law_67 16 rfl rfl)
theorem dL_law_1687 : decode cL_law 1687 = .ok (.iconst 0, 1) := dk_3 (dk_at dksL_law_67 19 rfl rfl)
theorem dL_law_1688 : decode cL_law 1688 = .ok (.ireturn, 1) := dk_172 (dk_at dksL_law_67 20 rfl rfl)
theorem dL_law_1689 : decode cL_law 1689 = .ok (.iload 5, 2) := dk_21 5 (dk_at dksL_law_67 21 rfl rfl)
theorem dL_law_1691 : decode cL_law 1691 = .ok (.ifCond .ne 15, 3) := dk_154 0 15 (dk_at dksL_law_68 0 rfl rfl)
theorem dL_law_1694 : decode cL_law 1694 = .ok (.aload_n 3, 1) := dk_45 (dk_at dksL_law_68 3 rfl rfl)
theorem dL_law_1695 : decode cL_law 1695 = .ok (.iconst 0, 1) := dk_3 (dk_at dksL_law_68 4 rfl rfl)
theorem dL_law_1696 : decode cL_law 1696 = .ok (.laload, 1) := dk_47 (dk_at dksL_law_68 5 rfl rfl)
theorem dL_law_1697 : decode cL_law 1697 = .ok (.iload 6, 2) := dk_21 6 (dk_at dksL_law_68 6 rfl rfl)
theorem dL_law_1699 : decode cL_law 1699 = .ok (.i2l, 1) := dk_133 (dk_at dksL_law_68 8 rfl rfl)
theorem dL_law_1700 : decode cL_law 1700 = .ok (.lcmp, 1) := dk_148 (dk_at dksL_law_68 9 rfl rfl)
theorem dL_law_1701 : decode cL_law 1701 = .ok (.ifCond .eq 5, 3) := dk_153 0 5 (dk_at dksL_law_68 10 rfl rfl)
theorem dL_law_1704 : decode cL_law 1704 = .ok (.iconst 0, 1) := dk_3 (dk_at dksL_law_68 13 rfl rfl)
theorem dL_law_1705 : decode cL_law 1705 = .ok (.ireturn, 1) := dk_172 (dk_at dksL_law_68 14 rfl rfl)
theorem dL_law_1706 : decode cL_law 1706 = .ok (.goto 281, 3) := dk_167 1 25 (dk_at dksL_law_68 15 rfl rfl)
theorem dL_law_1709 : decode cL_law 1709 = .ok (.aload_n 1, 1) := dk_43 (dk_at dksL_law_68 18 rfl rfl)
theorem dL_law_1710 : decode cL_law 1710 = .ok (.aload_n 0, 1) := dk_42 (dk_at dksL_law_68 19 rfl rfl)
theorem dL_law_1711 : decode cL_law 1711 = .ok (.iload 4, 2) := dk_21 4 (dk_at dksL_law_68 20 rfl rfl)
theorem dL_law_1713 : decode cL_law 1713 = .ok (.iconst 1, 1) := dk_4 (dk_at dksL_law_68 22 rfl rfl)
theorem dL_law_1714 : decode cL_law 1714 = .ok (.iadd, 1) := dk_96 (dk_at dksL_law_68 23 rfl rfl)
theorem dL_law_1715 : decode cL_law 1715 = .ok (.iaload, 1) := dk_46 (dk_at dksL_law_69 0 rfl rfl)
theorem dL_law_1716 : decode cL_law 1716 = .ok (.aload_n 3, 1) := dk_45 (dk_at dksL_law_69 1 rfl rfl)
theorem dL_law_1717 : decode cL_law 1717 = .ok (.invokestatic 193, 3) := dk_184 0 193 (dk_at dksL_law_69 2 rfl rfl)
theorem dL_law_1720 : decode cL_law 1720 = .ok (.istore 5, 2) := dk_54 5 (dk_at dksL_law_69 5 rfl rfl)
theorem dL_law_1722 : decode cL_law 1722 = .ok (.aload_n 2, 1) := dk_44 (dk_at dksL_law_69 7 rfl rfl)
theorem dL_law_1723 : decode cL_law 1723 = .ok (.aload_n 0, 1) := dk_42 (dk_at dksL_law_69 8 rfl rfl)
theorem dL_law_1724 : decode cL_law 1724 = .ok (.iload 4, 2) := dk_21 4 (dk_at dksL_law_69 9 rfl rfl)
theorem dL_law_1726 : decode cL_law 1726 = .ok (.iconst 1, 1) := dk_4 (dk_at dksL_law_69 11 rfl rfl)
theorem dL_law_1727 : decode cL_law 1727 = .ok (.iadd, 1) := dk_96 (dk_at dksL_law_69 12 rfl rfl)
theorem dL_law_1728 : decode cL_law 1728 = .ok (.iaload, 1) := dk_46 (dk_at dksL_law_69 13 rfl rfl)
theorem dL_law_1729 : decode cL_law 1729 = .ok (.invokevirtual 195, 3) := dk_182 0 195 (dk_at dksL_law_69 14 rfl rfl)
theorem dL_law_1732 : decode cL_law 1732 = .ok (.istore 6, 2) := dk_54 6 (dk_at dksL_law_69 17 rfl rfl)
theorem dL_law_1734 : decode cL_law 1734 = .ok (.aload_n 2, 1) := dk_44 (dk_at dksL_law_69 19 rfl rfl)
theorem dL_law_1735 : decode cL_law 1735 = .ok (.invokevirtual 116, 3) := dk_182 0 116 (dk_at dksL_law_69 20 rfl rfl)
theorem dL_law_1738 : decode cL_law 1738 = .ok (.iload 5, 2) := dk_21 5 (dk_at dksL_law_70 0 rfl rfl)
theorem dL_law_1740 : decode cL_law 1740 = .ok (.if_icmp .eq 5, 3) := dk_159 0 5 (dk_at dksL_law_70 2 rfl rfl)
theorem dL_law_1743 : decode cL_law 1743 = .ok (.iconst 0, 1) := dk_3 (dk_at dksL_law_70 5 rfl rfl)
theorem dL_law_1744 : decode cL_law 1744 = .ok (.ireturn, 1) := dk_172 (dk_at dksL_law_70 6 rfl rfl)
theorem dL_law_1745 : decode cL_law 1745 = .ok (.iload 5, 2) := dk_21 5 (dk_at dksL_law_70 7 rfl rfl)
theorem dL_law_1747 : decode cL_law 1747 = .ok (.ifCond .ne 15, 3) := dk_154 0 15 (dk_at dksL_law_70 9 rfl rfl)
theorem dL_law_1750 : decode cL_law 1750 = .ok (.aload_n 3, 1) := dk_45 (dk_at dksL_law_70 12 rfl rfl)
theorem dL_law_1751 : decode cL_law 1751 = .ok (.iconst 0, 1) := dk_3 (dk_at dksL_law_70 13 rfl rfl)
theorem dL_law_1752 : decode cL_law 1752 = .ok (.laload, 1) := dk_47 (dk_at dksL_law_70 14 rfl rfl)
theorem dL_law_1753 : decode cL_law 1753 = .ok (.iload 6, 2) := dk_21 6 (dk_at dksL_law_70 15 rfl rfl)
theorem dL_law_1755 : decode cL_law 1755 = .ok (.i2l, 1) := dk_133 (dk_at dksL_law_70 17 rfl rfl)
theorem dL_law_1756 : decode cL_law 1756 = .ok (.lcmp, 1) := dk_148 (dk_at dksL_law_70 18 rfl rfl)
theorem dL_law_1757 : decode cL_law 1757 = .ok (.ifCond .eq 5, 3) := dk_153 0 5 (dk_at dksL_law_70 19 rfl rfl)
theorem dL_law_1760 : decode cL_law 1760 = .ok (.iconst 0, 1) := dk_3 (dk_at dksL_law_70 22 rfl rfl)
theorem dL_law_1761 : decode cL_law 1761 = .ok (.ireturn, 1) := dk_172 (dk_at dksL_law_70 23 rfl rfl)
theorem dL_law_1762 : decode cL_law 1762 = .ok (.goto 225, 3) := dk_167 0 225 (dk_at dksL_law_71 0 rfl rfl)
theorem dL_law_1765 : decode cL_law 1765 = .ok (.aload_n 1, 1) := dk_43 (dk_at dksL_law_71 3 rfl rfl)
theorem dL_law_1766 : decode cL_law 1766 = .ok (.aload_n 3, 1) := dk_45 (dk_at dksL_law_71 4 rfl rfl)
theorem dL_law_1767 : decode cL_law 1767 = .ok (.invokestatic 196, 3) := dk_184 0 196 (dk_at dksL_law_71 5 rfl rfl)
theorem dL_law_1770 : decode cL_law 1770 = .ok (.istore 5, 2) := dk_54 5 (dk_at dksL_law_71 8 rfl rfl)
theorem dL_law_1772 : decode cL_law 1772 = .ok (.aload_n 2, 1) := dk_44 (dk_at dksL_law_71 10 rfl rfl)
theorem dL_law_1773 : decode cL_law 1773 = .ok (.invokevirtual 199, 3) := dk_182 0 199 (dk_at dksL_law_71 11 rfl rfl)
theorem dL_law_1776 : decode cL_law 1776 = .ok (.istore 6, 2) := dk_54 6 (dk_at dksL_law_71 14 rfl rfl)
theorem dL_law_1778 : decode cL_law 1778 = .ok (.aload_n 2, 1) := dk_44 (dk_at dksL_law_71 16 rfl rfl)
theorem dL_law_1779 : decode cL_law 1779 = .ok (.invokevirtual 116, 3) := dk_182 0 116 (dk_at dksL_law_71 17 rfl rfl)
theorem dL_law_1782 : decode cL_law 1782 = .ok (.iload 5, 2) := dk_21 5 (dk_at dksL_law_71 20 rfl rfl)
theorem dL_law_1784 : decode cL_law 1784 = .ok (.if_icmp .eq 5, 3) := dk_159 0 5 (dk_at dksL_law_72 0 rfl rfl)
theorem dL_law_1787 : decode cL_law 1787 = .ok (.iconst 0, 1) := dk_3 (dk_at dksL_law_72 3 rfl rfl)
theorem dL_law_1788 : decode cL_law 1788 = .ok (.ireturn, 1) := dk_172 (dk_at dksL_law_72 4 rfl rfl)
theorem dL_law_1789 : decode cL_law 1789 = .ok (.iload 5, 2) := dk_21 5 (dk_at dksL_law_72 5 rfl rfl)
theorem dL_law_1791 : decode cL_law 1791 = .ok (.ifCond .ne 15, 3) := dk_154 0 15 (dk_at dksL_law_72 7 rfl rfl)
theorem dL_law_1794 : decode cL_law 1794 = .ok (.aload_n 3, 1) := dk_45 (dk_at dksL_law_72 10 rfl rfl)
theorem dL_law_1795 : decode cL_law 1795 = .ok (.iconst 0, 1) := dk_3 (dk_at dksL_law_72 11 rfl rfl)
theorem dL_law_1796 : decode cL_law 1796 = .ok (.laload, 1) := dk_47 (dk_at dksL_law_72 12 rfl rfl)
theorem dL_law_1797 : decode cL_law 1797 = .ok (.iload 6, 2) := dk_21 6 (dk_at dksL_law_72 13 rfl rfl)
theorem dL_law_1799 : decode cL_law 1799 = .ok (.i2l, 1) := dk_133 (dk_at dksL_law_72 15 rfl rfl)
theorem dL_law_1800 : decode cL_law 1800 = .ok (.lcmp, 1) := dk_148 (dk_at dksL_law_72 16 rfl rfl)
theorem dL_law_1801 : decode cL_law 1801 = .ok (.ifCond .eq 5, 3) := dk_153 0 5 (dk_at dksL_law_72 17 rfl rfl)
theorem dL_law_1804 : decode cL_law 1804 = .ok (.iconst 0, 1) := dk_3 (dk_at dksL_law_72 20 rfl rfl)
theorem dL_law_1805 : decode cL_law 1805 = .ok (.ireturn, 1) := dk_172 (dk_at dksL_law_72 21 rfl rfl)
theorem dL_law_1806 : decode cL_law 1806 = .ok (.goto 181, 3) := dk_167 0 181 (dk_at dksL_law_73 0 rfl rfl)
theorem dL_law_1809 : decode cL_law 1809 = .ok (.aload_n 1, 1) := dk_43 (dk_at dksL_law_73 3 rfl rfl)
theorem dL_law_1810 : decode cL_law 1810 = .ok (.aload_n 0, 1) := dk_42 (dk_at dksL_law_73 4 rfl rfl)
theorem dL_law_1811 : decode cL_law 1811 = .ok (.iload 4, 2) := dk_21 4 (dk_at dksL_law_73 5 rfl rfl)
theorem dL_law_1813 : decode cL_law 1813 = .ok (.iconst 1, 1) := dk_4 (dk_at dksL_law_73 7 rfl rfl)
theorem dL_law_1814 : decode cL_law 1814 = .ok (.iadd, 1) := dk_96 (dk_at dksL_law_73 8 rfl rfl)
theorem dL_law_1815 : decode cL_law 1815 = .ok (.iaload, 1) := dk_46 (dk_at dksL_law_73 9 rfl rfl)
theorem dL_law_1816 : decode cL_law 1816 = .ok (.aload_n 3, 1) := dk_45 (dk_at dksL_law_73 10 rfl rfl)
theorem dL_law_1817 : decode cL_law 1817 = .ok (.invokestatic 200, 3) := dk_184 0 200 (dk_at dksL_law_73 11 rfl rfl)
theorem dL_law_1820 : decode cL_law 1820 = .ok (.istore 5, 2) := dk_54 5 (dk_at dksL_law_73 14 rfl rfl)
theorem dL_law_1822 : decode cL_law 1822 = .ok (.aload_n 2, 1) := dk_44 (dk_at dksL_law_73 16 rfl rfl)
theorem dL_law_1823 : decode cL_law 1823 = .ok (.aload_n 0, 1) := dk_42 (dk_at dksL_law_73 17 rfl rfl)
theorem dL_law_1824 : decode cL_law 1824 = .ok (.iload 4, 2) := dk_21 4 (dk_at dksL_law_73 18 rfl rfl)
theorem dL_law_1826 : decode cL_law 1826 = .ok (.iconst 1, 1) := dk_4 (dk_at dksL_law_73 20 rfl rfl)
theorem dL_law_1827 : decode cL_law 1827 = .ok (.iadd, 1) := dk_96 (dk_at dksL_law_73 21 rfl rfl)
theorem dL_law_1828 : decode cL_law 1828 = .ok (.iaload, 1) := dk_46 (dk_at dksL_law_73 22 rfl rfl)
theorem dL_law_1829 : decode cL_law 1829 = .ok (.invokevirtual 202, 3) := dk_182 0 202 (dk_at dksL_law_74 0 rfl rfl)
theorem dL_law_1832 : decode cL_law 1832 = .ok (.istore 6, 2) := dk_54 6 (dk_at dksL_law_74 3 rfl rfl)
theorem dL_law_1834 : decode cL_law 1834 = .ok (.aload_n 2, 1) := dk_44 (dk_at dksL_law_74 5 rfl rfl)
theorem dL_law_1835 : decode cL_law 1835 = .ok (.invokevirtual 116, 3) := dk_182 0 116 (dk_at dksL_law_74 6 rfl rfl)
theorem dL_law_1838 : decode cL_law 1838 = .ok (.iload 5, 2) := dk_21 5 (dk_at dksL_law_74 9 rfl rfl)
theorem dL_law_1840 : decode cL_law 1840 = .ok (.if_icmp .eq 5, 3) := dk_159 0 5 (dk_at dksL_law_74 11 rfl rfl)
theorem dL_law_1843 : decode cL_law 1843 = .ok (.iconst 0, 1) := dk_3 (dk_at dksL_law_74 14 rfl rfl)
theorem dL_law_1844 : decode cL_law 1844 = .ok (.ireturn, 1) := dk_172 (dk_at dksL_law_74 15 rfl rfl)
theorem dL_law_1845 : decode cL_law 1845 = .ok (.iload 5, 2) := dk_21 5 (dk_at dksL_law_74 16 rfl rfl)
theorem dL_law_1847 : decode cL_law 1847 = .ok (.ifCond .ne 15, 3) := dk_154 0 15 (dk_at dksL_law_74 18 rfl rfl)
theorem dL_law_1850 : decode cL_law 1850 = .ok (.aload_n 3, 1) := dk_45 (dk_at dksL_law_74 21 rfl rfl)
theorem dL_law_1851 : decode cL_law 1851 = .ok (.iconst 0, 1) := dk_3 (dk_at dksL_law_74 22 rfl rfl)
theorem dL_law_1852 : decode cL_law 1852 = .ok (.laload, 1) := dk_47 (dk_at dksL_law_74 23 rfl rfl)
theorem dL_law_1853 : decode cL_law 1853 = .ok (.iload 6, 2) := dk_21 6 (dk_at dksL_law_75 0 rfl rfl)
theorem dL_law_1855 : decode cL_law 1855 = .ok (.i2l, 1) := dk_133 (dk_at dksL_law_75 2 rfl rfl)
theorem dL_law_1856 : decode cL_law 1856 = .ok (.lcmp, 1) := dk_148 (dk_at dksL_law_75 3 rfl rfl)
theorem dL_law_1857 : decode cL_law 1857 = .ok (.ifCond .eq 5, 3) := dk_153 0 5 (dk_at dksL_law_75 4 rfl rfl)
theorem dL_law_1860 : decode cL_law 1860 = .ok (.iconst 0, 1) := dk_3 (dk_at dksL_law_75 7 rfl rfl)
theorem dL_law_1861 : decode cL_law 1861 = .ok (.ireturn, 1) := dk_172 (dk_at dksL_law_75 8 rfl rfl)
theorem dL_law_1862 : decode cL_law 1862 = .ok (.goto 125, 3) := dk_167 0 125 (dk_at dksL_law_75 9 rfl rfl)
theorem dL_law_1865 : decode cL_law 1865 = .ok (.aload_n 1, 1) := dk_43 (dk_at dksL_law_75 12 rfl rfl)
theorem dL_law_1866 : decode cL_law 1866 = .ok (.aload_n 0, 1) := dk_42 (dk_at dksL_law_75 13 rfl rfl)
theorem dL_law_1867 : decode cL_law 1867 = .ok (.iload 4, 2) := dk_21 4 (dk_at dksL_law_75 14 rfl rfl)
theorem dL_law_1869 : decode cL_law 1869 = .ok (.iconst 1, 1) := dk_4 (dk_at dksL_law_75 16 rfl rfl)
theorem dL_law_1870 : decode cL_law 1870 = .ok (.iadd, 1) := dk_96 (dk_at dksL_law_75 17 rfl rfl)
theorem dL_law_1871 : decode cL_law 1871 = .ok (.iaload, 1) := dk_46 (dk_at dksL_law_75 18 rfl rfl)
theorem dL_law_1872 : decode cL_law 1872 = .ok (.invokevirtual 203, 3) := dk_182 0 203 (dk_at dksL_law_75 19 rfl rfl)
theorem dL_law_1875 : decode cL_law 1875 = .ok (.aload_n 2, 1) := dk_44 (dk_at dksL_law_75 22 rfl rfl)
theorem dL_law_1876 : decode cL_law 1876 = .ok (.aload_n 0, 1) := dk_42 (dk_at dksL_law_75 23 rfl rfl)
theorem dL_law_1877 : decode cL_law 1877 = .ok (.iload 4, 2) := dk_21 4 (dk_at dksL_law_76 0 rfl rfl)
theorem dL_law_1879 : decode cL_law 1879 = .ok (.iconst 1, 1) := dk_4 (dk_at dksL_law_76 2 rfl rfl)
theorem dL_law_1880 : decode cL_law 1880 = .ok (.iadd, 1) := dk_96 (dk_at dksL_law_76 3 rfl rfl)
theorem dL_law_1881 : decode cL_law 1881 = .ok (.iaload, 1) := dk_46 (dk_at dksL_law_76 4 rfl rfl)
theorem dL_law_1882 : decode cL_law 1882 = .ok (.invokevirtual 206, 3) := dk_182 0 206 (dk_at dksL_law_76 5 rfl rfl)
theorem dL_law_1885 : decode cL_law 1885 = .ok (.if_icmp .eq 102, 3) := dk_159 0 102 (dk_at dksL_law_76 8 rfl rfl)
theorem dL_law_1888 : decode cL_law 1888 = .ok (.iconst 0, 1) := dk_3 (dk_at dksL_law_76 11 rfl rfl)
theorem dL_law_1889 : decode cL_law 1889 = .ok (.ireturn, 1) := dk_172 (dk_at dksL_law_76 12 rfl rfl)
theorem dL_law_1890 : decode cL_law 1890 = .ok (.aload_n 1, 1) := dk_43 (dk_at dksL_law_76 13 rfl rfl)
theorem dL_law_1891 : decode cL_law 1891 = .ok (.invokevirtual 207, 3) := dk_182 0 207 (dk_at dksL_law_76 14 rfl rfl)
theorem dL_law_1894 : decode cL_law 1894 = .ok (.dstore 5, 2) := dk_57 5 (dk_at dksL_law_76 17 rfl rfl)
theorem dL_law_1896 : decode cL_law 1896 = .ok (.aload_n 2, 1) := dk_44 (dk_at dksL_law_76 19 rfl rfl)
theorem dL_law_1897 : decode cL_law 1897 = .ok (.invokevirtual 211, 3) := dk_182 0 211 (dk_at dksL_law_76 20 rfl rfl)
theorem dL_law_1900 : decode cL_law 1900 = .ok (.dstore 7, 2) := dk_57 7 (dk_at dksL_law_77 0 rfl rfl)
theorem dL_law_1902 : decode cL_law 1902 = .ok (.dload 5, 2) := dk_24 5 (dk_at dksL_law_77 2 rfl rfl)
theorem dL_law_1904 : decode cL_law 1904 = .ok (.dload 7, 2) := dk_24 7 (dk_at dksL_law_77 4 rfl rfl)
theorem dL_law_1906 : decode cL_law 1906 = .ok (.dcmp .l, 1) := dk_151 (dk_at dksL_law_77 6 rfl rfl)
theorem dL_law_1907 : decode cL_law 1907 = .ok (.ifCond .eq 21, 3) := dk_153 0 21 (dk_at dksL_law_77 7 rfl rfl)
theorem dL_law_1910 : decode cL_law 1910 = .ok (.dload 5, 2) := dk_24 5 (dk_at dksL_law_77 10 rfl rfl)
theorem dL_law_1912 : decode cL_law 1912 = .ok (.dload 5, 2) := dk_24 5 (dk_at dksL_law_77 12 rfl rfl)
theorem dL_law_1914 : decode cL_law 1914 = .ok (.dcmp .l, 1) := dk_151 (dk_at dksL_law_77 14 rfl rfl)
theorem dL_law_1915 : decode cL_law 1915 = .ok (.ifCond .eq 11, 3) := dk_153 0 11 (dk_at dksL_law_77 15 rfl rfl)
theorem dL_law_1918 : decode cL_law 1918 = .ok (.dload 7, 2) := dk_24 7 (dk_at dksL_law_77 18 rfl rfl)
theorem dL_law_1920 : decode cL_law 1920 = .ok (.dload 7, 2) := dk_24 7 (dk_at dksL_law_77 20 rfl rfl)
theorem dL_law_1922 : decode cL_law 1922 = .ok (.dcmp .l, 1) := dk_151 (dk_at dksL_law_77 22 rfl rfl)
theorem dL_law_1923 : decode cL_law 1923 = .ok (.ifCond .ne 5, 3) := dk_154 0 5 (dk_at dksL_law_78 0 rfl rfl)
theorem dL_law_1926 : decode cL_law 1926 = .ok (.iconst 0, 1) := dk_3 (dk_at dksL_law_78 3 rfl rfl)
theorem dL_law_1927 : decode cL_law 1927 = .ok (.ireturn, 1) := dk_172 (dk_at dksL_law_78 4 rfl rfl)
theorem dL_law_1928 : decode cL_law 1928 = .ok (.goto 59, 3) := dk_167 0 59 (dk_at dksL_law_78 5 rfl rfl)
theorem dL_law_1931 : decode cL_law 1931 = .ok (.aload_n 1, 1) := dk_43 (dk_at dksL_law_78 8 rfl rfl)
theorem dL_law_1932 : decode cL_law 1932 = .ok (.invokevirtual 212, 3) := dk_182 0 212 (dk_at dksL_law_78 9 rfl rfl)
theorem dL_law_1935 : decode cL_law 1935 = .ok (.f2d, 1) := dk_141 (dk_at dksL_law_78 12 rfl rfl)
theorem dL_law_1936 : decode cL_law 1936 = .ok (.dstore 5, 2) := dk_57 5 (dk_at dksL_law_78 13 rfl rfl)
theorem dL_law_1938 : decode cL_law 1938 = .ok (.aload_n 2, 1) := dk_44 (dk_at dksL_law_78 15 rfl rfl)
theorem dL_law_1939 : decode cL_law 1939 = .ok (.invokevirtual 216, 3) := dk_182 0 216 (dk_at dksL_law_78 16 rfl rfl)
theorem dL_law_1942 : decode cL_law 1942 = .ok (.f2d, 1) := dk_141 (dk_at dksL_law_78 19 rfl rfl)
theorem dL_law_1943 : decode cL_law 1943 = .ok (.dstore 7, 2) := dk_57 7 (dk_at dksL_law_78 20 rfl rfl)
theorem dL_law_1945 : decode cL_law 1945 = .ok (.dload 5, 2) := dk_24 5 (dk_at dksL_law_78 22 rfl rfl)
theorem dL_law_1947 : decode cL_law 1947 = .ok (.dload 7, 2) := dk_24 7 (dk_at dksL_law_79 0 rfl rfl)
theorem dL_law_1949 : decode cL_law 1949 = .ok (.dcmp .l, 1) := dk_151 (dk_at dksL_law_79 2 rfl rfl)
theorem dL_law_1950 : decode cL_law 1950 = .ok (.ifCond .eq 21, 3) := dk_153 0 21 (dk_at dksL_law_79 3 rfl rfl)
theorem dL_law_1953 : decode cL_law 1953 = .ok (.dload 5, 2) := dk_24 5 (dk_at dksL_law_79 6 rfl rfl)
theorem dL_law_1955 : decode cL_law 1955 = .ok (.dload 5, 2) := dk_24 5 (dk_at dksL_law_79 8 rfl rfl)
theorem dL_law_1957 : decode cL_law 1957 = .ok (.dcmp .l, 1) := dk_151 (dk_at dksL_law_79 10 rfl rfl)
theorem dL_law_1958 : decode cL_law 1958 = .ok (.ifCond .eq 11, 3) := dk_153 0 11 (dk_at dksL_law_79 11 rfl rfl)
theorem dL_law_1961 : decode cL_law 1961 = .ok (.dload 7, 2) := dk_24 7 (dk_at dksL_law_79 14 rfl rfl)
theorem dL_law_1963 : decode cL_law 1963 = .ok (.dload 7, 2) := dk_24 7 (dk_at dksL_law_79 16 rfl rfl)
theorem dL_law_1965 : decode cL_law 1965 = .ok (.dcmp .l, 1) := dk_151 (dk_at dksL_law_79 18 rfl rfl)
theorem dL_law_1966 : decode cL_law 1966 = .ok (.ifCond .ne 5, 3) := dk_154 0 5 (dk_at dksL_law_79 19 rfl rfl)
theorem dL_law_1969 : decode cL_law 1969 = .ok (.iconst 0, 1) := dk_3 (dk_at dksL_law_79 22 rfl rfl)
theorem dL_law_1970 : decode cL_law 1970 = .ok (.ireturn, 1) := dk_172 (dk_at dksL_law_79 23 rfl rfl)
theorem dL_law_1971 : decode cL_law 1971 = .ok (.goto 16, 3) := dk_167 0 16 (dk_at dksL_law_80 0 rfl rfl)
theorem dL_law_1974 : decode cL_law 1974 = .ok (.aload_n 1, 1) := dk_43 (dk_at dksL_law_80 3 rfl rfl)
theorem dL_law_1975 : decode cL_law 1975 = .ok (.invokevirtual 217, 3) := dk_182 0 217 (dk_at dksL_law_80 4 rfl rfl)
theorem dL_law_1978 : decode cL_law 1978 = .ok (.aload_n 2, 1) := dk_44 (dk_at dksL_law_80 7 rfl rfl)
theorem dL_law_1979 : decode cL_law 1979 = .ok (.invokevirtual 220, 3) := dk_182 0 220 (dk_at dksL_law_80 8 rfl rfl)
theorem dL_law_1982 : decode cL_law 1982 = .ok (.if_icmp .eq 5, 3) := dk_159 0 5 (dk_at dksL_law_80 11 rfl rfl)
theorem dL_law_1985 : decode cL_law 1985 = .ok (.iconst 0, 1) := dk_3 (dk_at dksL_law_80 14 rfl rfl)
theorem dL_law_1986 : decode cL_law 1986 = .ok (.ireturn, 1) := dk_172 (dk_at dksL_law_80 15 rfl rfl)
theorem dL_law_1987 : decode cL_law 1987 = .ok (.iinc 4 5, 3) := dk_132 4 5 (dk_at dksL_law_80 16 rfl rfl)
theorem dL_law_1990 : decode cL_law 1990 = .ok (.goto (-1967), 3) := dk_167 248 81 (dk_at dksL_law_80 19 rfl rfl)
theorem dL_law_1993 : decode cL_law 1993 = .ok (.iconst 1, 1) := dk_4 (dk_at dksL_law_80 22 rfl rfl)
theorem dL_law_1994 : decode cL_law 1994 = .ok (.ireturn, 1) := dk_172 (dk_at dksL_law_80 23 rfl rfl)

