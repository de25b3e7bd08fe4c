/-- TowerComputerModel.go(I)I -/
def m_17_144 : List am_B := [
  (false, [(.iload_n 1, []), (.ifCond .lt 10, [1]), (.iload_n 1, []), (.sipush 20000, []), (.if_icmp .le 5, [2]), (.nop, [1])]),
  (false, [(.iconst (-1), []), (.ireturn, [])]),
  (false, [(.iconst 0, []), (.istore_n 2, []), (.nop, [3])]),
  (true, [(.iload_n 2, []), (.iload_n 1, []), (.if_icmp .ge 25, [4]), (.aload_n 0, []), (.getfield 908, [17, 120, 0]), (.aload_n 0, []), (.getfield 877, [17, 110, 0]), (.if_icmp .ge 14, [4]), (.aload_n 0, []), (.invokevirtual 927, [1, 17, 143, 1, 0, 0, 1]), (.iload_n 2, []), (.iconst 1, []), (.iadd, []), (.istore_n 2, []), (.goto (-24), [3])]),
  (false, [(.iload_n 2, []), (.ireturn, [])])]
/-- TowerComputerModel.set(II)Z -/
def m_17_145 : List am_B := [
  (false, [(.iload_n 1, []), (.ifCond .lt 10, [1]), (.iload_n 1, []), (.sipush 32767, []), (.if_icmp .le 5, [2]), (.nop, [1])]),
  (false, [(.iconst 0, []), (.ireturn, [1])]),
  (false, [(.aload_n 0, []), (.getfield 232, [17, 117, 1]), (.iload_n 1, []), (.iload_n 2, []), (.i2s, []), (.iastore, []), (.iconst 1, []), (.ireturn, [1])])]
/-- TowerComputerModel.store(I)I -/
def m_17_146 : List am_B := [
  (false, [(.iload_n 1, []), (.ifCond .lt 10, [1]), (.iload_n 1, []), (.sipush 32767, []), (.if_icmp .le 9, [2]), (.nop, [1])]),
  (false, [(.ldc_w 858, [0, 100000]), (.goto 9, [3])]),
  (false, [(.aload_n 0, []), (.getfield 232, [17, 117, 1]), (.iload_n 1, []), (.iaload, []), (.nop, [3])]),
  (false, [(.ireturn, [])])]
/-- TowerComputerModel.register(I)I -/
def m_17_147 : List am_B := [
  (false, [(.iload_n 1, []), (.tableswitch 69 0 5 #[39, 44, 49, 54, 59, 64], [7, 1, 2, 3, 4, 5, 6])]),
  (false, [(.aload_n 0, []), (.getfield 902, [17, 118, 0]), (.ireturn, [])]),
  (false, [(.aload_n 0, []), (.getfield 905, [17, 119, 0]), (.ireturn, [])]),
  (false, [(.aload_n 0, []), (.getfield 908, [17, 120, 0]), (.ireturn, [])]),
  (false, [(.aload_n 0, []), (.getfield 877, [17, 110, 0]), (.ireturn, [])]),
  (false, [(.aload_n 0, []), (.getfield 911, [17, 121, 0]), (.ireturn, [])]),
  (false, [(.aload_n 0, []), (.getfield 865, [17, 112, 0]), (.ireturn, [])]),
  (false, [(.iconst 0, []), (.ireturn, [])])]
/-- TowerComputerModel.needNumber()I -/
def m_17_148 : List am_B := [
  (false, [(.aload_n 0, []), (.getfield 20, [17, 5, 1]), (.aload_n 0, []), (.getfield 381, [17, 10, 0]), (.iaload, []), (.iconst 2, []), (.if_icmp .eq 10, [1]), (.aload_n 0, []), (.invokevirtual 435, [1, 17, 18, 1, 0, 0, 1]), (.goto 7, [2])]),
  (false, [(.aload_n 0, []), (.invokevirtual 432, [1, 17, 21, 1, 0, 0, 1]), (.nop, [2])]),
  (false, [(.aload_n 0, []), (.getfield 381, [17, 10, 0]), (.iconst 1, []), (.isub, []), (.ireturn, [])])]
/-- TowerComputerModel.pinList(Z)V -/
def m_17_149 : List am_B := [
  (false, [(.iconst 1, []), (.istore_n 2, []), (.nop, [1])]),
  (true, [(.iload_n 2, []), (.ifCond .eq 217, [9]), (.aload_n 0, []), (.getfield 419, [17, 11, 0]), (.ifCond .ne 210, [9]), (.aload_n 0, []), (.getfield 20, [17, 5, 1]), (.aload_n 0, []), (.getfield 381, [17, 10, 0]), (.iaload, []), (.iconst 1, []), (.if_icmp .eq 8, [2]), (.aload_n 0, []), (.invokevirtual 435, [1, 17, 18, 1, 0, 0, 1]), (.return_, [])]),
  (false, [(.aload_n 0, []), (.aload_n 0, []), (.getfield 930, [17, 125, 0]), (.aload_n 0, []), (.getfield 238, [17, 124, 1]), (.aload_n 0, []), (.getfield 933, [17, 122, 0]), (.iconst 1, []), (.isub, []), (.iaload, []), (.isub, []), (.bipush 12, []), (.aload_n 0, []), (.getfield 381, [17, 10, 0]), (.invokevirtual 469, [1, 17, 29, 4, 0, 0, 1]), (.aload_n 0, []), (.getfield 419, [17, 11, 0]), (.ifCond .le 4, [3]), (.return_, [])]),
  (false, [(.aload_n 0, []), (.getfield 244, [17, 127, 1]), (.aload_n 0, []), (.getfield 930, [17, 125, 0]), (.aload_n 0, []), (.getfield 381, [17, 10, 0]), (.iastore, []), (.aload_n 0, []), (.getfield 241, [17, 126, 1]), (.aload_n 0, []), (.getfield 930, [17, 125, 0]), (.iload_n 1, []), (.bastore, [4]), (.aload_n 0, []), (.getfield 250, [17, 129, 1]), (.aload_n 0, []), (.getfield 930, [17, 125, 0]), (.iconst (-1), []), (.iastore, []), (.aload_n 0, []), (.getfield 247, [17, 128, 1]), (.aload_n 0, []), (.getfield 930, [17, 125, 0]), (.iconst 1, []), (.iastore, []), (.aload_n 0, []), (.invokevirtual 432, [1, 17, 21, 1, 0, 0, 1]), (.aload_n 0, []), (.bipush 91, []), (.invokevirtual 429, [1, 17, 19, 2, 1, 0, 1]), (.ifCond .eq 74, [8]), (.aload_n 0, []), (.invokevirtual 432, [1, 17, 21, 1, 0, 0, 1]), (.aload_n 0, []), (.getfield 250, [17, 129, 1]), (.aload_n 0, []), (.getfield 930, [17, 125, 0]), (.aload_n 0, []), (.invokevirtual 936, [1, 17, 148, 1, 1, 0, 1]), (.iastore, []), (.aload_n 0, []), (.bipush 93, []), (.invokevirtual 453, [1, 17, 22, 2, 0, 0, 1]), (.aload_n 0, []), (.getfield 419, [17, 11, 0]), (.ifCond .le 4, [4]), (.return_, [])]),
  (false, [(.aload_n 0, []), (.getfield 29, [17, 8, 1]), (.aload_n 0, []), (.getfield 250, [17, 129, 1]), (.aload_n 0, []), (.getfield 930, [17, 125, 0]), (.iaload, []), (.iaload, []), (.istore_n 3, []), (.aload_n 0, []), (.getfield 247, [17, 128, 1]), (.aload_n 0, []), (.getfield 930, [17, 125, 0]), (.iload_n 3, []), (.iconst 1, []), (.if_icmp .lt 9, [5]), (.iload_n 3, []), (.bipush 16, []), (.if_icmp .le 7, [6]), (.nop, [5])]),
  (false, [(.iconst 1, []), (.goto 4, [7])]),
  (false, [(.iload_n 3, []), (.nop, [7])]),
  (false, [(.iastore, []), (.nop, [8])]),
  (true, [(.aload_n 0, []), (.aload_n 0, []), (.getfield 930, [17, 125, 0]), (.iconst 1, []), (.iadd, []), (.putfield 930, [17, 125, 0]), (.aload_n 0, []), (.bipush 44, []), (.invokevirtual 429, [1, 17, 19, 2, 1, 0, 1]), (.istore_n 2, []), (.iload_n 2, []), (.ifCond .eq (-208), [1]), (.aload_n 0, []), (.invokevirtual 432, [1, 17, 21, 1, 0, 0, 1]), (.goto (-215), [1])]),
  (false, [(.aload_n 0, []), (.bipush 59, []), (.invokevirtual 453, [1, 17, 22, 2, 0, 0, 1]), (.return_, [])])]
/-- TowerComputerModel.range()V -/
def m_17_150 : List am_B := [
  (false, [(.aload_n 0, []), (.iconst (-1), []), (.putfield 939, [17, 148, 0]), (.aload_n 0, []), (.iconst 0, []), (.putfield 942, [17, 149, 0]), (.aload_n 0, []), (.iconst 0, []), (.putfield 945, [17, 150, 0]), (.aload_n 0, []), (.bipush 91, []), (.invokevirtual 429, [1, 17, 19, 2, 1, 0, 1]), (.ifCond .ne 4, [1]), (.return_, [])]),
  (false, [(.aload_n 0, []), (.aload_n 0, []), (.getfield 381, [17, 10, 0]), (.putfield 939, [17, 148, 0]), (.aload_n 0, []), (.invokevirtual 432, [1, 17, 21, 1, 0, 0, 1]), (.aload_n 0, []), (.invokevirtual 936, [1, 17, 148, 1, 1, 0, 1]), (.istore_n 1, []), (.iload_n 1, []), (.istore_n 2, []), (.aload_n 0, []), (.getfield 419, [17, 11, 0]), (.ifCond .ne 21, [2]), (.aload_n 0, []), (.bipush 46, []), (.invokevirtual 429, [1, 17, 19, 2, 1, 0, 1]), (.ifCond .eq 12, [2]), (.aload_n 0, []), (.invokevirtual 432, [1, 17, 21, 1, 0, 0, 1]), (.aload_n 0, []), (.invokevirtual 936, [1, 17, 148, 1, 1, 0, 1]), (.istore_n 2, []), (.nop, [2])]),
  (true, [(.aload_n 0, []), (.bipush 93, []), (.invokevirtual 453, [1, 17, 22, 2, 0, 0, 1]), (.aload_n 0, []), (.getfield 419, [17, 11, 0]), (.ifCond .le 4, [3]), (.return_, [])]),
  (false, [(.aload_n 0, []), (.aload_n 0, []), (.getfield 29, [17, 8, 1]), (.iload_n 1, []), (.iaload, []), (.putfield 942, [17, 149, 0]), (.aload_n 0, []), (.aload_n 0, []), (.getfield 29, [17, 8, 1]), (.iload_n 2, []), (.iaload, []), (.putfield 945, [17, 150, 0]), (.return_, [])])]
/-- TowerComputerModel.pinOf(II)I -/
def m_17_151 : List am_B := [
  (false, [(.aload_n 0, []), (.getfield 238, [17, 124, 1]), (.iload_n 1, []), (.iaload, []), (.istore_n 3, []), (.nop, [1])]),
  (true, [(.iload_n 3, []), (.aload_n 0, []), (.getfield 238, [17, 124, 1]), (.iload_n 1, []), (.iconst 1, []), (.iadd, []), (.iaload, []), (.if_icmp .ge 25, [3]), (.aload_n 0, []), (.aload_n 0, []), (.getfield 244, [17, 127, 1]), (.iload_n 3, []), (.iaload, []), (.iload_n 2, []), (.invokevirtual 587, [1, 17, 16, 3, 1, 0, 1]), (.ifCond .eq 5, [2]), (.iload_n 3, []), (.ireturn, [])]),
  (false, [(.iinc 3 1, []), (.goto (-31), [1])]),
  (false, [(.iconst (-1), []), (.ireturn, [])])]
/-- TowerComputerModel.innerOf(II)I -/
def m_17_152 : List am_B := [
  (false, [(.aload_n 0, []), (.getfield 286, [17, 143, 1]), (.iload_n 1, []), (.iaload, []), (.istore_n 3, []), (.nop, [1])]),
  (true, [(.iload_n 3, []), (.aload_n 0, []), (.getfield 286, [17, 143, 1]), (.iload_n 1, []), (.iconst 1, []), (.iadd, []), (.iaload, []), (.if_icmp .ge 25, [3]), (.aload_n 0, []), (.aload_n 0, []), (.getfield 289, [17, 145, 1]), (.iload_n 3, []), (.iaload, []), (.iload_n 2, []), (.invokevirtual 587, [1, 17, 16, 3, 1, 0, 1]), (.ifCond .eq 5, [2]), (.iload_n 3, []), (.ireturn, [])]),
  (false, [(.iinc 3 1, []), (.goto (-31), [1])]),
  (false, [(.iconst (-1), []), (.ireturn, [])])]
/-- TowerComputerModel.link()V -/
def m_17_153 : List am_B := [
  (false, [(.aload_n 0, []), (.invokevirtual 527, [1, 17, 24, 1, 1, 0, 1]), (.istore_n 1, []), (.aload_n 0, []), (.getfield 419, [17, 11, 0]), (.ifCond .le 4, [1]), (.return_, [])]),
  (false, [(.aload_n 0, []), (.getfield 262, [17, 135, 1]), (.aload_n 0, []), (.getfield 948, [17, 134, 0]), (.iload_n 1, []), (.iastore, []), (.aload_n 0, []), (.invokevirtual 951, [1, 17, 150, 1, 0, 0, 1]), (.aload_n 0, []), (.getfield 265, [17, 136, 1]), (.aload_n 0, []), (.getfield 948, [17, 134, 0]), (.aload_n 0, []), (.getfield 939, [17, 148, 0]), (.iastore, []), (.aload_n 0, []), (.getfield 268, [17, 137, 1]), (.aload_n 0, []), (.getfield 948, [17, 134, 0]), (.aload_n 0, []), (.getfield 942, [17, 149, 0]), (.iastore, []), (.aload_n 0, []), (.getfield 271, [17, 138, 1]), (.aload_n 0, []), (.getfield 948, [17, 134, 0]), (.aload_n 0, []), (.getfield 945, [17, 150, 0]), (.iastore, []), (.aload_n 0, []), (.bipush 61, []), (.invokevirtual 453, [1, 17, 22, 2, 0, 0, 1]), (.aload_n 0, []), (.getfield 419, [17, 11, 0]), (.ifCond .le 4, [2]), (.return_, [])]),
  (false, [(.aload_n 0, []), (.getfield 274, [17, 139, 1]), (.aload_n 0, []), (.getfield 948, [17, 134, 0]), (.aload_n 0, []), (.getfield 381, [17, 10, 0]), (.iastore, []), (.nop, [3])]),
  (true, [(.aload_n 0, []), (.getfield 277, [17, 140, 1]), (.aload_n 0, []), (.getfield 948, [17, 134, 0]), (.iconst (-1), []), (.iastore, []), (.aload_n 0, []), (.iconst 4, []), (.invokevirtual 438, [1, 17, 20, 2, 1, 0, 1]), (.ifCond .ne 11, [4]), (.aload_n 0, []), (.iconst 5, []), (.invokevirtual 438, [1, 17, 20, 2, 1, 0, 1]), (.ifCond .eq 10, [5]), (.nop, [4])]),
  (false, [(.aload_n 0, []), (.invokevirtual 432, [1, 17, 21, 1, 0, 0, 1]), (.goto 181, [11])]),
  (false, [(.aload_n 0, []), (.getfield 20, [17, 5, 1]), (.aload_n 0, []), (.getfield 381, [17, 10, 0]), (.iaload, []), (.iconst 1, []), (.if_icmp .ne 164, [10]), (.aload_n 0, []), (.getfield 933, [17, 122, 0]), (.iconst 1, []), (.isub, []), (.istore_n 2, []), (.aload_n 0, []), (.getfield 238, [17, 124, 1]), (.aload_n 0, []), (.getfield 933, [17, 122, 0]), (.aload_n 0, []), (.getfield 930, [17, 125, 0]), (.iastore, []), (.aload_n 0, []), (.getfield 286, [17, 143, 1]), (.aload_n 0, []), (.getfield 933, [17, 122, 0]), (.aload_n 0, []), (.getfield 954, [17, 144, 0]), (.iastore, []), (.aload_n 0, []), (.iload_n 2, []), (.aload_n 0, []), (.getfield 381, [17, 10, 0]), (.invokevirtual 957, [1, 17, 151, 3, 1, 0, 1]), (.iconst (-1), []), (.if_icmp .ne 68, [8]), (.nop, [6])]),
  (true, [(.aload_n 0, []), (.iload_n 2, []), (.aload_n 0, []), (.getfield 381, [17, 10, 0]), (.invokevirtual 960, [1, 17, 152, 3, 1, 0, 1]), (.iconst (-1), []), (.if_icmp .ne 55, [8]), (.aload_n 0, []), (.aload_n 0, []), (.getfield 954, [17, 144, 0]), (.aload_n 0, []), (.getfield 286, [17, 143, 1]), (.iload_n 2, []), (.iaload, []), (.isub, []), (.bipush 100, []), (.aload_n 0, []), (.getfield 381, [17, 10, 0]), (.invokevirtual 469, [1, 17, 29, 4, 0, 0, 1]), (.aload_n 0, []), (.getfield 419, [17, 11, 0]), (.ifCond .le 4, [7]), (.return_, [])]),
  (false, [(.aload_n 0, []), (.getfield 289, [17, 145, 1]), (.aload_n 0, []), (.getfield 954, [17, 144, 0]), (.aload_n 0, []), (.getfield 381, [17, 10, 0]), (.iastore, []), (.aload_n 0, []), (.aload_n 0, []), (.getfield 954, [17, 144, 0]), (.iconst 1, []), (.iadd, []), (.putfield 954, [17, 144, 0]), (.nop, [8])]),
  (false, [(.aload_n 0, []), (.invokevirtual 432, [1, 17, 21, 1, 0, 0, 1]), (.aload_n 0, []), (.invokevirtual 951, [1, 17, 150, 1, 0, 0, 1]), (.aload_n 0, []), (.getfield 277, [17, 140, 1]), (.aload_n 0, []), (.getfield 948, [17, 134, 0]), (.aload_n 0, []), (.getfield 939, [17, 148, 0]), (.iastore, []), (.nop, [9])]),
  (true, [(.aload_n 0, []), (.getfield 280, [17, 141, 1]), (.aload_n 0, []), (.getfield 948, [17, 134, 0]), (.aload_n 0, []), (.getfield 942, [17, 149, 0]), (.iastore, []), (.aload_n 0, []), (.getfield 283, [17, 142, 1]), (.aload_n 0, []), (.getfield 948, [17, 134, 0]), (.aload_n 0, []), (.getfield 945, [17, 150, 0]), (.iastore, []), (.goto 7, [11])]),
  (false, [(.aload_n 0, []), (.invokevirtual 435, [1, 17, 18, 1, 0, 0, 1]), (.nop, [11])]),
  (false, [(.aload_n 0, []), (.aload_n 0, []), (.getfield 948, [17, 134, 0]), (.iconst 1, []), (.iadd, []), (.putfield 948, [17, 134, 0]), (.return_, [])])]
/-- TowerComputerModel.part()V -/
def m_17_154 : List am_B := [
  (false, [(.aload_n 0, []), (.getfield 20, [17, 5, 1]), (.aload_n 0, []), (.getfield 381, [17, 10, 0]), (.iaload, []), (.iconst 1, []), (.if_icmp .eq 8, [1]), (.aload_n 0, []), (.invokevirtual 435, [1, 17, 18, 1, 0, 0, 1]), (.return_, [])]),
  (false, [(.aload_n 0, []), (.aload_n 0, []), (.getfield 963, [17, 131, 0]), (.aload_n 0, []), (.getfield 253, [17, 130, 1]), (.aload_n 0, []), (.getfield 933, [17, 122, 0]), (.iconst 1, []), (.isub, []), (.iaload, []), (.isub, []), (.bipush 24, []), (.aload_n 0, []), (.getfield 381, [17, 10, 0]), (.invokevirtual 469, [1, 17, 29, 4, 0, 0, 1]), (.aload_n 0, []), (.getfield 419, [17, 11, 0]), (.ifCond .le 4, [2]), (.return_, [])]),
  (false, [(.aload_n 0, []), (.getfield 256, [17, 132, 1]), (.aload_n 0, []), (.getfield 963, [17, 131, 0]), (.aload_n 0, []), (.getfield 381, [17, 10, 0]), (.iastore, []), (.aload_n 0, []), (.getfield 259, [17, 133, 1]), (.aload_n 0, []), (.getfield 963, [17, 131, 0]), (.aload_n 0, []), (.getfield 948, [17, 134, 0]), (.iastore, []), (.aload_n 0, []), (.aload_n 0, []), (.getfield 963, [17, 131, 0]), (.iconst 1, []), (.iadd, []), (.putfield 963, [17, 131, 0]), (.aload_n 0, []), (.invokevirtual 432, [1, 17, 21, 1, 0, 0, 1]), (.aload_n 0, []), (.bipush 40, []), (.invokevirtual 453, [1, 17, 22, 2, 0, 0, 1]), (.iconst 1, []), (.istore_n 1, []), (.nop, [3])]),
  (true, [(.iload_n 1, []), (.ifCond .eq 32, [4]), (.aload_n 0, []), (.getfield 419, [17, 11, 0]), (.ifCond .ne 25, [4]), (.aload_n 0, []), (.invokevirtual 966, [1, 17, 153, 1, 0, 0, 1]), (.aload_n 0, []), (.bipush 44, []), (.invokevirtual 429, [1, 17, 19, 2, 1, 0, 1]), (.istore_n 1, []), (.iload_n 1, []), (.ifCond .eq (-23), [3]), (.aload_n 0, []), (.invokevirtual 432, [1, 17, 21, 1, 0, 0, 1]), (.goto (-30), [3])]),
  (false, [(.aload_n 0, []), (.bipush 41, []), (.invokevirtual 453, [1, 17, 22, 2, 0, 0, 1]), (.aload_n 0, []), (.bipush 59, []), (.invokevirtual 453, [1, 17, 22, 2, 0, 0, 1]), (.return_, [])])]
/-- TowerComputerModel.chip()V -/
def m_17_155 : List am_B := [
  (false, [(.aload_n 0, []), (.iconst 0, []), (.invokevirtual 571, [1, 17, 23, 2, 0, 0, 1]), (.aload_n 0, []), (.getfield 419, [17, 11, 0]), (.ifCond .ne 20, [1]), (.aload_n 0, []), (.getfield 20, [17, 5, 1]), (.aload_n 0, []), (.getfield 381, [17, 10, 0]), (.iaload, []), (.iconst 1, []), (.if_icmp .eq 7, [1]), (.aload_n 0, []), (.invokevirtual 435, [1, 17, 18, 1, 0, 0, 1]), (.nop, [1])]),
  (false, [(.aload_n 0, []), (.getfield 419, [17, 11, 0]), (.ifCond .ne 17, [2]), (.aload_n 0, []), (.aload_n 0, []), (.getfield 933, [17, 122, 0]), (.bipush 16, []), (.aload_n 0, []), (.getfield 381, [17, 10, 0]), (.invokevirtual 469, [1, 17, 29, 4, 0, 0, 1]), (.nop, [2])]),
  (true, [(.aload_n 0, []), (.getfield 419, [17, 11, 0]), (.ifCond .le 4, [3]), (.return_, [])]),
  (false, [(.aload_n 0, []), (.getfield 235, [17, 123, 1]), (.aload_n 0, []), (.getfield 933, [17, 122, 0]), (.aload_n 0, []), (.getfield 381, [17, 10, 0]), (.iastore, []), (.aload_n 0, []), (.getfield 238, [17, 124, 1]), (.aload_n 0, []), (.getfield 933, [17, 122, 0]), (.aload_n 0, []), (.getfield 930, [17, 125, 0]), (.iastore, []), (.aload_n 0, []), (.getfield 253, [17, 130, 1]), (.aload_n 0, []), (.getfield 933, [17, 122, 0]), (.aload_n 0, []), (.getfield 963, [17, 131, 0]), (.iastore, []), (.aload_n 0, []), (.getfield 286, [17, 143, 1]), (.aload_n 0, []), (.getfield 933, [17, 122, 0]), (.aload_n 0, []), (.getfield 954, [17, 144, 0]), (.iastore, []), (.aload_n 0, []), (.aload_n 0, []), (.getfield 933, [17, 122, 0]), (.iconst 1, []), (.iadd, []), (.putfield 933, [17, 122, 0]), (.aload_n 0, []), (.invokevirtual 432, [1, 17, 21, 1, 0, 0, 1]), (.aload_n 0, []), (.bipush 123, []), (.invokevirtual 453, [1, 17, 22, 2, 0, 0, 1]), (.aload_n 0, []), (.iconst 1, []), (.invokevirtual 571, [1, 17, 23, 2, 0, 0, 1]), (.aload_n 0, []), (.getfield 419, [17, 11, 0]), (.ifCond .ne 8, [4]), (.aload_n 0, []), (.iconst 0, []), (.invokevirtual 969, [1, 17, 149, 2, 0, 0, 1]), (.nop, [4])]),
  (true, [(.aload_n 0, []), (.iconst 2, []), (.invokevirtual 571, [1, 17, 23, 2, 0, 0, 1]), (.aload_n 0, []), (.getfield 419, [17, 11, 0]), (.ifCond .ne 8, [5]), (.aload_n 0, []), (.iconst 1, []), (.invokevirtual 969, [1, 17, 149, 2, 0, 0, 1]), (.nop, [5])]),
  (false, [(.aload_n 0, []), (.iconst 3, []), (.invokevirtual 571, [1, 17, 23, 2, 0, 0, 1]), (.nop, [6])]),
  (true, [(.aload_n 0, []), (.bipush 58, []), (.invokevirtual 453, [1, 17, 22, 2, 0, 0, 1]), (.nop, [7])]),
  (true, [(.aload_n 0, []), (.getfield 419, [17, 11, 0]), (.ifCond .ne 19, [8]), (.aload_n 0, []), (.bipush 125, []), (.invokevirtual 429, [1, 17, 19, 2, 1, 0, 1]), (.ifCond .ne 10, [8]), (.aload_n 0, []), (.invokevirtual 973, [1, 17, 154, 1, 0, 0, 1]), (.goto (-20), [7])]),
  (false, [(.aload_n 0, []), (.bipush 125, []), (.invokevirtual 453, [1, 17, 22, 2, 0, 0, 1]), (.return_, [])])]
/-- TowerComputerModel.chipTexts()V -/
def m_17_156 : List am_B := [
  (false, [(.aload_n 0, []), (.iconst 0, []), (.putfield 419, [17, 11, 0]), (.aload_n 0, []), (.iconst 0, []), (.putfield 933, [17, 122, 0]), (.aload_n 0, []), (.iconst 0, []), (.putfield 930, [17, 125, 0]), (.aload_n 0, []), (.iconst 0, []), (.putfield 963, [17, 131, 0]), (.aload_n 0, []), (.iconst 0, []), (.putfield 948, [17, 134, 0]), (.aload_n 0, []), (.iconst 0, []), (.putfield 954, [17, 144, 0]), (.iconst 1, []), (.istore_n 1, []), (.nop, [1])]),
  (true, [(.iload_n 1, []), (.ifCond .eq 35, [4]), (.aload_n 0, []), (.getfield 419, [17, 11, 0]), (.ifCond .ne 28, [4]), (.aload_n 0, []), (.invokevirtual 976, [1, 17, 155, 1, 0, 0, 1]), (.aload_n 0, []), (.getfield 20, [17, 5, 1]), (.aload_n 0, []), (.getfield 381, [17, 10, 0]), (.iaload, []), (.ifCond .eq 7, [2]), (.iconst 1, []), (.goto 4, [3])]),
  (false, [(.iconst 0, []), (.nop, [3])]),
  (false, [(.istore_n 1, []), (.goto (-33), [1])]),
  (true, [(.aload_n 0, []), (.getfield 238, [17, 124, 1]), (.aload_n 0, []), (.getfield 933, [17, 122, 0]), (.aload_n 0, []), (.getfield 930, [17, 125, 0]), (.iastore, []), (.aload_n 0, []), (.getfield 253, [17, 130, 1]), (.aload_n 0, []), (.getfield 933, [17, 122, 0]), (.aload_n 0, []), (.getfield 963, [17, 131, 0]), (.iastore, []), (.aload_n 0, []), (.getfield 286, [17, 143, 1]), (.aload_n 0, []), (.getfield 933, [17, 122, 0]), (.aload_n 0, []), (.getfield 954, [17, 144, 0]), (.iastore, []), (.aload_n 0, []), (.getfield 259, [17, 133, 1]), (.aload_n 0, []), (.getfield 963, [17, 131, 0]), (.aload_n 0, []), (.getfield 948, [17, 134, 0]), (.iastore, []), (.return_, [])])]
/-- TowerComputerModel.gateOf(I)I -/
def m_17_157 : List am_B := [
  (false, [(.aload_n 0, []), (.getstatic 979, [174]), (.aload_n 0, []), (.getfield 23, [17, 6, 1]), (.iload_n 1, []), (.iaload, []), (.aload_n 0, []), (.getfield 26, [17, 7, 1]), (.iload_n 1, []), (.iaload, []), (.invokevirtual 400, [1, 17, 10, 4, 1, 0, 1]), (.ireturn, [])])]
/-- TowerComputerModel.chipOf(I)I -/
def m_17_158 : List am_B := [
  (false, [(.aload_n 0, []), (.iload_n 1, []), (.invokevirtual 982, [1, 17, 157, 2, 1, 0, 1]), (.istore_n 2, []), (.iconst 0, []), (.istore_n 3, []), (.nop, [1])]),
  (true, [(.iload_n 3, []), (.aload_n 0, []), (.getfield 933, [17, 122, 0]), (.if_icmp .ge 36, [4]), (.iload_n 2, []), (.iconst (-1), []), (.if_icmp .ne 31, [4]), (.aload_n 0, []), (.aload_n 0, []), (.getfield 235, [17, 123, 1]), (.iload_n 3, []), (.iaload, []), (.iload_n 1, []), (.invokevirtual 587, [1, 17, 16, 3, 1, 0, 1]), (.ifCond .eq 9, [2]), (.iconst 2, []), (.iload_n 3, []), (.iadd, []), (.goto 4, [3])]),
  (false, [(.iconst (-1), []), (.nop, [3])]),
  (false, [(.istore_n 2, []), (.iinc 3 1, []), (.goto (-38), [1])]),
  (false, [(.iload_n 2, []), (.ireturn, [])])]
/-- TowerComputerModel.pinOfPart(II)I -/
def m_17_159 : List am_B := [
  (false, [(.iload_n 1, []), (.iconst 1, []), (.if_icmp .le 12, [1]), (.aload_n 0, []), (.iload_n 1, []), (.iconst 2, []), (.isub, []), (.iload_n 2, []), (.invokevirtual 957, [1, 17, 151, 3, 1, 0, 1]), (.ireturn, [])]),
  (false, [(.aload_n 0, []), (.getstatic 985, [175]), (.aload_n 0, []), (.getfield 23, [17, 6, 1]), (.iload_n 2, []), (.iaload, []), (.aload_n 0, []), (.getfield 26, [17, 7, 1]), (.iload_n 2, []), (.iaload, []), (.invokevirtual 400, [1, 17, 10, 4, 1, 0, 1]), (.istore_n 3, []), (.iload_n 1, []), (.ifCond .ne 14, [4]), (.iload_n 3, []), (.iconst 3, []), (.if_icmp .ne 7, [2]), (.iconst (-1), []), (.goto 4, [3])]),
  (false, [(.iload_n 3, []), (.nop, [3])]),
  (false, [(.ireturn, [])]),
  (false, [(.iload_n 3, []), (.iconst 3, []), (.if_icmp .ne 7, [5]), (.iconst 0, []), (.goto 13, [7])]),
  (false, [(.iload_n 3, []), (.iconst 2, []), (.if_icmp .ne 7, [6]), (.iconst 1, []), (.goto 4, [7])]),
  (false, [(.iconst (-1), []), (.nop, [7])]),
  (false, [(.ireturn, [])])]
/-- TowerComputerModel.isOut(II)Z -/
def m_17_160 : List am_B := [
  (false, [(.iload_n 1, []), (.iconst 1, []), (.if_icmp .le 12, [1]), (.aload_n 0, []), (.getfield 241, [17, 126, 1]), (.iload_n 2, []), (.baload, [4]), (.goto 30, [5])]),
  (false, [(.iload_n 1, []), (.ifCond .ne 16, [3]), (.iload_n 2, []), (.iconst 2, []), (.if_icmp .ne 7, [2]), (.iconst 1, []), (.goto 17, [5])]),
  (false, [(.iconst 0, []), (.goto 13, [5])]),
  (false, [(.iload_n 2, []), (.iconst 1, []), (.if_icmp .ne 7, [4]), (.iconst 1, []), (.goto 4, [5])]),
  (false, [(.iconst 0, []), (.nop, [5])]),
  (false, [(.ireturn, [1])])]
/-- TowerComputerModel.widthOf(II)I -/
def m_17_161 : List am_B := [
  (false, [(.iload_n 1, []), (.iconst 1, []), (.if_icmp .le 12, [1]), (.aload_n 0, []), (.getfield 247, [17, 128, 1]), (.iload_n 2, []), (.iaload, []), (.goto 4, [2])]),
  (false, [(.iconst 1, []), (.nop, [2])]),
  (false, [(.ireturn, [])])]
/-- TowerComputerModel.rangeFits(IIII)Z -/
def m_17_162 : List am_B := [
  (false, [(.iload_n 1, []), (.iconst (-1), []), (.if_icmp .eq 14, [1]), (.iload_n 2, []), (.iload_n 3, []), (.if_icmp .gt 13, [2]), (.iload_n 3, []), (.iload 4, []), (.if_icmp .ge 7, [2]), (.nop, [1])]),
  (false, [(.iconst 1, []), (.goto 4, [3])]),
  (false, [(.iconst 0, []), (.nop, [3])]),
  (false, [(.ireturn, [1])])]
/-- TowerComputerModel.bitsOf(IIII)I -/
def m_17_163 : List am_B := [
  (false, [(.iload_n 1, []), (.iconst (-1), []), (.if_icmp .ne 8, [1]), (.iload 4, []), (.goto 8, [2])]),
  (false, [(.iload_n 3, []), (.iload_n 2, []), (.isub, []), (.iconst 1, []), (.iadd, []), (.nop, [2])]),
  (false, [(.ireturn, [])])]
/-- TowerComputerModel.checkPins()V -/
def m_17_164 : List am_B := [
  (false, [(.iconst 0, []), (.istore_n 1, []), (.nop, [1])]),
  (true, [(.iload_n 1, []), (.aload_n 0, []), (.getfield 933, [17, 122, 0]), (.if_icmp .ge 234, [20]), (.aload_n 0, []), (.aload_n 0, []), (.getfield 235, [17, 123, 1]), (.iload_n 1, []), (.iaload, []), (.invokevirtual 982, [1, 17, 157, 2, 1, 0, 1]), (.iconst (-1), []), (.if_icmp .eq 7, [2]), (.iconst 1, []), (.goto 4, [3])]),
  (false, [(.iconst 0, []), (.nop, [3])]),
  (false, [(.istore_n 2, []), (.iconst 0, []), (.istore_n 3, []), (.nop, [4])]),
  (true, [(.iload_n 3, []), (.iload_n 1, []), (.if_icmp .ge 38, [8]), (.iload_n 2, []), (.ifCond .ne 22, [5]), (.aload_n 0, []), (.aload_n 0, []), (.getfield 235, [17, 123, 1]), (.iload_n 3, []), (.iaload, []), (.aload_n 0, []), (.getfield 235, [17, 123, 1]), (.iload_n 1, []), (.iaload, []), (.invokevirtual 587, [1, 17, 16, 3, 1, 0, 1]), (.ifCond .eq 7, [6]), (.nop, [5])]),
  (false, [(.iconst 1, []), (.goto 4, [7])]),
  (false, [(.iconst 0, []), (.nop, [7])]),
  (false, [(.istore_n 2, []), (.iinc 3 1, []), (.goto (-37), [4])]),
  (false, [(.iload_n 2, []), (.ifCond .eq 14, [9]), (.aload_n 0, []), (.iconst 3, []), (.aload_n 0, []), (.getfield 235, [17, 123, 1]), (.iload_n 1, []), (.iaload, []), (.invokevirtual 599, [1, 17, 58, 3, 0, 0, 1]), (.nop, [9])]),
  (false, [(.aload_n 0, []), (.getfield 238, [17, 124, 1]), (.iload_n 1, []), (.iaload, []), (.istore_n 3, []), (.nop, [10])]),
  (true, [(.iload_n 3, []), (.aload_n 0, []), (.getfield 238, [17, 124, 1]), (.iload_n 1, []), (.iconst 1, []), (.iadd, []), (.iaload, []), (.if_icmp .ge 132, [19]), (.iconst 0, []), (.istore 4, []), (.aload_n 0, []), (.getfield 238, [17, 124, 1]), (.iload_n 1, []), (.iaload, []), (.istore 5, []), (.nop, [11])]),
  (true, [(.iload 5, []), (.iload_n 3, []), (.if_icmp .ge 41, [15]), (.iload 4, []), (.ifCond .ne 23, [12]), (.aload_n 0, []), (.aload_n 0, []), (.getfield 244, [17, 127, 1]), (.iload 5, []), (.iaload, []), (.aload_n 0, []), (.getfield 244, [17, 127, 1]), (.iload_n 3, []), (.iaload, []), (.invokevirtual 587, [1, 17, 16, 3, 1, 0, 1]), (.ifCond .eq 7, [13]), (.nop, [12])]),
  (false, [(.iconst 1, []), (.goto 4, [14])]),
  (false, [(.iconst 0, []), (.nop, [14])]),
  (false, [(.istore 4, []), (.iinc 5 1, []), (.goto (-41), [11])]),
  (false, [(.iload 4, []), (.ifCond .eq 14, [16]), (.aload_n 0, []), (.iconst 3, []), (.aload_n 0, []), (.getfield 244, [17, 127, 1]), (.iload_n 3, []), (.iaload, []), (.invokevirtual 599, [1, 17, 58, 3, 0, 0, 1]), (.nop, [16])]),
  (true, [(.aload_n 0, []), (.getfield 250, [17, 129, 1]), (.iload_n 3, []), (.iaload, []), (.iconst (-1), []), (.if_icmp .eq 45, [18]), (.aload_n 0, []), (.getfield 29, [17, 8, 1]), (.aload_n 0, []), (.getfield 250, [17, 129, 1]), (.iload_n 3, []), (.iaload, []), (.iaload, []), (.iconst 1, []), (.if_icmp .lt 19, [17]), (.aload_n 0, []), (.getfield 29, [17, 8, 1]), (.aload_n 0, []), (.getfield 250, [17, 129, 1]), (.iload_n 3, []), (.iaload, []), (.iaload, []), (.bipush 16, []), (.if_icmp .le 14, [18]), (.nop, [17])]),
  (false, [(.aload_n 0, []), (.iconst 5, []), (.aload_n 0, []), (.getfield 250, [17, 129, 1]), (.iload_n 3, []), (.iaload, []), (.invokevirtual 599, [1, 17, 58, 3, 0, 0, 1]), (.nop, [18])]),
  (false, [(.iinc 3 1, []), (.goto (-138), [10])]),
  (false, [(.iinc 1 1, []), (.goto (-236), [1])]),
  (false, [(.return_, [])])]
/-- TowerComputerModel.findInner(I)V -/
def m_17_165 : List am_B := [
  (false, [(.aload_n 0, []), (.getfield 286, [17, 143, 1]), (.iload_n 1, []), (.iaload, []), (.istore_n 2, []), (.nop, [1])]),
  (true, [(.iload_n 2, []), (.aload_n 0, []), (.getfield 286, [17, 143, 1]), (.iload_n 1, []), (.iconst 1, []), (.iadd, []), (.iaload, []), (.if_icmp .ge 23, [2]), (.aload_n 0, []), (.getfield 292, [17, 146, 1]), (.iload_n 2, []), (.iconst 0, []), (.iastore, []), (.aload_n 0, []), (.getfield 295, [17, 147, 1]), (.iload_n 2, []), (.iconst 0, []), (.bastore, [4]), (.iinc 2 1, []), (.goto (-29), [1])]),
  (false, [(.aload_n 0, []), (.getfield 253, [17, 130, 1]), (.iload_n 1, []), (.iaload, []), (.istore_n 2, []), (.nop, [3])]),
  (true, [(.iload_n 2, []), (.aload_n 0, []), (.getfield 253, [17, 130, 1]), (.iload_n 1, []), (.iconst 1, []), (.iadd, []), (.iaload, []), (.if_icmp .ge 226, [13]), (.aload_n 0, []), (.getfield 298, [17, 151, 1]), (.iload_n 2, []), (.aload_n 0, []), (.aload_n 0, []), (.getfield 256, [17, 132, 1]), (.iload_n 2, []), (.iaload, []), (.invokevirtual 988, [1, 17, 158, 2, 1, 0, 1]), (.iastore, []), (.aload_n 0, []), (.getfield 259, [17, 133, 1]), (.iload_n 2, []), (.iaload, []), (.istore_n 3, []), (.nop, [4])]),
  (true, [(.iload_n 3, []), (.aload_n 0, []), (.getfield 259, [17, 133, 1]), (.iload_n 2, []), (.iconst 1, []), (.iadd, []), (.iaload, []), (.if_icmp .ge 185, [12]), (.aload_n 0, []), (.getfield 298, [17, 151, 1]), (.iload_n 2, []), (.iaload, []), (.iconst (-1), []), (.if_icmp .eq 175, [12]), (.aload_n 0, []), (.aload_n 0, []), (.getfield 298, [17, 151, 1]), (.iload_n 2, []), (.iaload, []), (.aload_n 0, []), (.getfield 262, [17, 135, 1]), (.iload_n 3, []), (.iaload, []), (.invokevirtual 991, [1, 17, 159, 3, 1, 0, 1]), (.istore 4, []), (.aload_n 0, []), (.getfield 20, [17, 5, 1]), (.aload_n 0, []), (.getfield 274, [17, 139, 1]), (.iload_n 3, []), (.iaload, []), (.iaload, []), (.iconst 1, []), (.if_icmp .ne 17, [6]), (.nop, [5])]),
  (true, [(.aload_n 0, []), (.iload_n 1, []), (.aload_n 0, []), (.getfield 274, [17, 139, 1]), (.iload_n 3, []), (.iaload, []), (.invokevirtual 960, [1, 17, 152, 3, 1, 0, 1]), (.goto 4, [7])]),
  (false, [(.iconst (-1), []), (.nop, [7])]),
  (true, [(.istore 5, []), (.iload 4, []), (.iconst (-1), []), (.if_icmp .eq 113, [11]), (.iload 5, []), (.iconst (-1), []), (.if_icmp .eq 107, [11]), (.aload_n 0, []), (.aload_n 0, []), (.getfield 298, [17, 151, 1]), (.iload_n 2, []), (.iaload, []), (.iload 4, []), (.invokevirtual 994, [1, 17, 160, 3, 1, 0, 1]), (.ifCond .eq 92, [11]), (.aload_n 0, []), (.getfield 292, [17, 146, 1]), (.iload 5, []), (.iaload, []), (.ifCond .eq 6, [8]), (.goto 79, [11])]),
  (false, [(.aload_n 0, []), (.aload_n 0, []), (.getfield 298, [17, 151, 1]), (.iload_n 2, []), (.iaload, []), (.iload 4, []), (.invokevirtual 997, [1, 17, 161, 3, 1, 0, 1]), (.istore 6, []), (.aload_n 0, []), (.getfield 292, [17, 146, 1]), (.iload 5, []), (.aload_n 0, []), (.aload_n 0, []), (.getfield 265, [17, 136, 1]), (.iload_n 3, []), (.iaload, []), (.aload_n 0, []), (.getfield 268, [17, 137, 1]), (.iload_n 3, []), (.iaload, []), (.aload_n 0, []), (.getfield 271, [17, 138, 1]), (.iload_n 3, []), (.iaload, []), (.iload 6, []), (.invokevirtual 1000, [1, 17, 162, 5, 1, 0, 1]), (.ifCond .eq 30, [9]), (.aload_n 0, []), (.aload_n 0, []), (.getfield 265, [17, 136, 1]), (.iload_n 3, []), (.iaload, []), (.aload_n 0, []), (.getfield 268, [17, 137, 1]), (.iload_n 3, []), (.iaload, []), (.aload_n 0, []), (.getfield 271, [17, 138, 1]), (.iload_n 3, []), (.iaload, []), (.iload 6, []), (.invokevirtual 1004, [1, 17, 163, 5, 1, 0, 1]), (.goto 4, [10])]),
  (false, [(.iconst (-1), []), (.nop, [10])]),
  (false, [(.iastore, []), (.nop, [11])]),
  (false, [(.iinc 3 1, []), (.goto (-191), [4])]),
  (false, [(.iinc 2 1, []), (.goto (-232), [3])]),
  (false, [(.return_, [])])]
/-- TowerComputerModel.checkRight(IIZI)V -/
def m_17_166 : List am_B := [
  (false, [(.aload_n 0, []), (.getfield 274, [17, 139, 1]), (.iload_n 2, []), (.iaload, []), (.istore 5, []), (.aload_n 0, []), (.getfield 20, [17, 5, 1]), (.iload 5, []), (.iaload, []), (.iconst 1, []), (.if_icmp .eq 15, [2]), (.iload_n 3, []), (.ifCond .eq 10, [1]), (.aload_n 0, []), (.iconst 4, []), (.iload 5, []), (.invokevirtual 599, [1, 17, 58, 3, 0, 0, 1]), (.nop, [1])]),
  (false, [(.return_, [])]),
  (false, [(.aload_n 0, []), (.iload_n 1, []), (.iload 5, []), (.invokevirtual 957, [1, 17, 151, 3, 1, 0, 1]), (.istore 6, []), (.iload 6, []), (.iconst (-1), []), (.if_icmp .ne 151, [11]), (.aload_n 0, []), (.iload_n 1, []), (.iload 5, []), (.invokevirtual 960, [1, 17, 152, 3, 1, 0, 1]), (.istore 7, []), (.aload_n 0, []), (.getfield 277, [17, 140, 1]), (.iload_n 2, []), (.iaload, []), (.iconst (-1), []), (.if_icmp .eq 14, [3]), (.aload_n 0, []), (.iconst 5, []), (.aload_n 0, []), (.getfield 277, [17, 140, 1]), (.iload_n 2, []), (.iaload, []), (.invokevirtual 599, [1, 17, 58, 3, 0, 0, 1]), (.nop, [3])]),
  (true, [(.iload_n 3, []), (.ifCond .eq 20, [4]), (.aload_n 0, []), (.getfield 295, [17, 147, 1]), (.iload 7, []), (.baload, [4]), (.ifCond .eq 10, [4]), (.aload_n 0, []), (.iconst 3, []), (.iload 5, []), (.invokevirtual 599, [1, 17, 58, 3, 0, 0, 1]), (.nop, [4])]),
  (false, [(.iload_n 3, []), (.ifCond .ne 20, [5]), (.aload_n 0, []), (.getfield 292, [17, 146, 1]), (.iload 7, []), (.iaload, []), (.ifCond .ne 10, [5]), (.aload_n 0, []), (.iconst 4, []), (.iload 5, []), (.invokevirtual 599, [1, 17, 58, 3, 0, 0, 1]), (.nop, [5])]),
  (true, [(.iload_n 3, []), (.ifCond .ne 48, [7]), (.aload_n 0, []), (.getfield 292, [17, 146, 1]), (.iload 7, []), (.iaload, []), (.ifCond .le 38, [7]), (.aload_n 0, []), (.getfield 277, [17, 140, 1]), (.iload_n 2, []), (.iaload, []), (.iconst (-1), []), (.if_icmp .ne 28, [7]), (.nop, [6])]),
  (true, [(.iload 4, []), (.iconst (-1), []), (.if_icmp .eq 22, [7]), (.aload_n 0, []), (.getfield 292, [17, 146, 1]), (.iload 7, []), (.iaload, []), (.iload 4, []), (.if_icmp .eq 10, [7]), (.aload_n 0, []), (.iconst 5, []), (.iload 5, []), (.invokevirtual 599, [1, 17, 58, 3, 0, 0, 1]), (.nop, [7])]),
  (true, [(.aload_n 0, []), (.getfield 295, [17, 147, 1]), (.iload 7, []), (.aload_n 0, []), (.getfield 295, [17, 147, 1]), (.iload 7, []), (.baload, [4]), (.ifCond .ne 7, [8]), (.iload_n 3, []), (.ifCond .eq 7, [9]), (.nop, [8])]),
  (false, [(.iconst 1, []), (.goto 4, [10])]),
  (false, [(.iconst 0, []), (.nop, [10])]),
  (false, [(.bastore, [4]), (.return_, [])]),
  (false, [(.aload_n 0, []), (.getfield 241, [17, 126, 1]), (.iload 6, []), (.baload, [4]), (.iload_n 3, []), (.if_icmp .eq 11, [12]), (.aload_n 0, []), (.iconst 4, []), (.iload 5, []), (.invokevirtual 599, [1, 17, 58, 3, 0, 0, 1]), (.return_, [])]),
  (false, [(.aload_n 0, []), (.getfield 247, [17, 128, 1]), (.iload 6, []), (.iaload, []), (.istore 7, []), (.aload_n 0, []), (.aload_n 0, []), (.getfield 277, [17, 140, 1]), (.iload_n 2, []), (.iaload, []), (.aload_n 0, []), (.getfield 280, [17, 141, 1]), (.iload_n 2, []), (.iaload, []), (.aload_n 0, []), (.getfield 283, [17, 142, 1]), (.iload_n 2, []), (.iaload, []), (.iload 7, []), (.invokevirtual 1000, [1, 17, 162, 5, 1, 0, 1]), (.ifCond .ne 15, [13]), (.aload_n 0, []), (.iconst 5, []), (.aload_n 0, []), (.getfield 277, [17, 140, 1]), (.iload_n 2, []), (.iaload, []), (.invokevirtual 599, [1, 17, 58, 3, 0, 0, 1]), (.return_, [])]),
  (false, [(.aload_n 0, []), (.aload_n 0, []), (.getfield 277, [17, 140, 1]), (.iload_n 2, []), (.iaload, []), (.aload_n 0, []), (.getfield 280, [17, 141, 1]), (.iload_n 2, []), (.iaload, []), (.aload_n 0, []), (.getfield 283, [17, 142, 1]), (.iload_n 2, []), (.iaload, []), (.iload 7, []), (.invokevirtual 1004, [1, 17, 163, 5, 1, 0, 1]), (.istore 8, []), (.iload 4, []), (.iconst (-1), []), (.if_icmp .eq 17, [14]), (.iload 8, []), (.iload 4, []), (.if_icmp .eq 10, [14]), (.aload_n 0, []), (.iconst 5, []), (.iload 5, []), (.invokevirtual 599, [1, 17, 58, 3, 0, 0, 1]), (.nop, [14])]),
  (true, [(.iload_n 3, []), (.ifCond .ne 4, [15]), (.return_, [])]),
  (false, [(.iconst 1, []), (.iload 8, []), (.ishl, []), (.iconst 1, []), (.isub, []), (.aload_n 0, []), (.getfield 277, [17, 140, 1]), (.iload_n 2, []), (.iaload, []), (.iconst (-1), []), (.if_icmp .ne 7, [16]), (.iconst 0, []), (.goto 9, [17])]),
  (false, [(.aload_n 0, []), (.getfield 280, [17, 141, 1]), (.iload_n 2, []), (.iaload, []), (.nop, [17])]),
  (true, [(.ishl, []), (.istore 9, []), (.aload_n 0, []), (.getfield 304, [17, 154, 1]), (.iload 6, []), (.iaload, []), (.iload 9, []), (.iand, []), (.ifCond .eq 10, [18]), (.aload_n 0, []), (.iconst 3, []), (.iload 5, []), (.invokevirtual 599, [1, 17, 58, 3, 0, 0, 1]), (.nop, [18])]),
  (false, [(.aload_n 0, []), (.getfield 304, [17, 154, 1]), (.iload 6, []), (.aload_n 0, []), (.getfield 304, [17, 154, 1]), (.iload 6, []), (.iaload, []), (.iload 9, []), (.ior, []), (.iastore, []), (.return_, [])])]
/-- TowerComputerModel.checkLinks(I)V -/
def m_17_167 : List am_B := [
  (false, [(.iconst 0, []), (.istore_n 2, []), (.nop, [1])]),
  (true, [(.iload_n 2, []), (.sipush 200, []), (.if_icmp .ge 16, [2]), (.aload_n 0, []), (.getfield 304, [17, 154, 1]), (.iload_n 2, []), (.iconst 0, []), (.iastore, []), (.iinc 2 1, []), (.goto (-17), [1])]),
  (false, [(.aload_n 0, []), (.getfield 253, [17, 130, 1]), (.iload_n 1, []), (.iaload, []), (.istore_n 2, []), (.nop, [3])]),
  (true, [(.iload_n 2, []), (.aload_n 0, []), (.getfield 253, [17, 130, 1]), (.iload_n 1, []), (.iconst 1, []), (.iadd, []), (.iaload, []), (.if_icmp .ge 318, [18]), (.aload_n 0, []), (.getfield 298, [17, 151, 1]), (.iload_n 2, []), (.iaload, []), (.istore_n 3, []), (.iload_n 3, []), (.iconst (-1), []), (.if_icmp .ne 17, [4]), (.aload_n 0, []), (.iconst 4, []), (.aload_n 0, []), (.getfield 256, [17, 132, 1]), (.iload_n 2, []), (.iaload, []), (.invokevirtual 599, [1, 17, 58, 3, 0, 0, 1]), (.goto 286, [17])]),
  (false, [(.iconst 0, []), (.istore 4, []), (.nop, [5])]),
  (true, [(.iload 4, []), (.sipush 200, []), (.if_icmp .ge 17, [6]), (.aload_n 0, []), (.getfield 301, [17, 153, 1]), (.iload 4, []), (.iconst 0, []), (.iastore, []), (.iinc 4 1, []), (.goto (-19), [5])]),
  (false, [(.aload_n 0, []), (.getfield 259, [17, 133, 1]), (.iload_n 2, []), (.iaload, []), (.istore 4, []), (.nop, [7])]),
  (true, [(.iload 4, []), (.aload_n 0, []), (.getfield 259, [17, 133, 1]), (.iload_n 2, []), (.iconst 1, []), (.iadd, []), (.iaload, []), (.if_icmp .ge 240, [17]), (.aload_n 0, []), (.iload_n 3, []), (.aload_n 0, []), (.getfield 262, [17, 135, 1]), (.iload 4, []), (.iaload, []), (.invokevirtual 991, [1, 17, 159, 3, 1, 0, 1]), (.istore 5, []), (.iload 5, []), (.iconst (-1), []), (.if_icmp .ne 18, [8]), (.aload_n 0, []), (.iconst 4, []), (.aload_n 0, []), (.getfield 262, [17, 135, 1]), (.iload 4, []), (.iaload, []), (.invokevirtual 599, [1, 17, 58, 3, 0, 0, 1]), (.goto 199, [16])]),
  (false, [(.aload_n 0, []), (.iload_n 3, []), (.iload 5, []), (.invokevirtual 997, [1, 17, 161, 3, 1, 0, 1]), (.istore 6, []), (.aload_n 0, []), (.aload_n 0, []), (.getfield 265, [17, 136, 1]), (.iload 4, []), (.iaload, []), (.aload_n 0, []), (.getfield 268, [17, 137, 1]), (.iload 4, []), (.iaload, []), (.aload_n 0, []), (.getfield 271, [17, 138, 1]), (.iload 4, []), (.iaload, []), (.iload 6, []), (.invokevirtual 1000, [1, 17, 162, 5, 1, 0, 1]), (.istore 7, []), (.iload 7, []), (.ifCond .eq 33, [9]), (.aload_n 0, []), (.aload_n 0, []), (.getfield 265, [17, 136, 1]), (.iload 4, []), (.iaload, []), (.aload_n 0, []), (.getfield 268, [17, 137, 1]), (.iload 4, []), (.iaload, []), (.aload_n 0, []), (.getfield 271, [17, 138, 1]), (.iload 4, []), (.iaload, []), (.iload 6, []), (.invokevirtual 1004, [1, 17, 163, 5, 1, 0, 1]), (.goto 4, [10])]),
  (false, [(.iconst (-1), []), (.nop, [10])]),
  (false, [(.istore 8, []), (.iload 7, []), (.ifCond .ne 15, [11]), (.aload_n 0, []), (.iconst 5, []), (.aload_n 0, []), (.getfield 265, [17, 136, 1]), (.iload 4, []), (.iaload, []), (.invokevirtual 599, [1, 17, 58, 3, 0, 0, 1]), (.nop, [11])]),
  (true, [(.aload_n 0, []), (.iload_n 3, []), (.iload 5, []), (.invokevirtual 994, [1, 17, 160, 3, 1, 0, 1]), (.istore 9, []), (.iload 7, []), (.ifCond .eq 81, [15]), (.iload 9, []), (.ifCond .ne 76, [15]), (.iconst 1, []), (.iload 8, []), (.ishl, []), (.iconst 1, []), (.isub, []), (.aload_n 0, []), (.getfield 265, [17, 136, 1]), (.iload 4, []), (.iaload, []), (.iconst (-1), []), (.if_icmp .ne 7, [12]), (.iconst 0, []), (.goto 10, [13])]),
  (false, [(.aload_n 0, []), (.getfield 268, [17, 137, 1]), (.iload 4, []), (.iaload, []), (.nop, [13])]),
  (true, [(.ishl, []), (.istore 10, []), (.aload_n 0, []), (.getfield 301, [17, 153, 1]), (.iload 5, []), (.iaload, []), (.iload 10, []), (.iand, []), (.ifCond .eq 15, [14]), (.aload_n 0, []), (.iconst 3, []), (.aload_n 0, []), (.getfield 262, [17, 135, 1]), (.iload 4, []), (.iaload, []), (.invokevirtual 599, [1, 17, 58, 3, 0, 0, 1]), (.nop, [14])]),
  (true, [(.aload_n 0, []), (.getfield 301, [17, 153, 1]), (.iload 5, []), (.aload_n 0, []), (.getfield 301, [17, 153, 1]), (.iload 5, []), (.iaload, []), (.iload 10, []), (.ior, []), (.iastore, []), (.nop, [15])]),
  (false, [(.aload_n 0, []), (.iload_n 1, []), (.iload 4, []), (.iload 9, []), (.iload 8, []), (.invokevirtual 1007, [1, 17, 166, 5, 0, 0, 1]), (.nop, [16])]),
  (false, [(.iinc 4 1, []), (.goto (-247), [7])]),
  (false, [(.iinc 2 1, []), (.goto (-324), [3])]),
  (false, [(.return_, [])])]
/-- TowerComputerModel.checkRing()V -/
def m_17_168 : List am_B := [
  (false, [(.iconst 0, []), (.istore_n 1, []), (.nop, [1])]),
  (true, [(.iload_n 1, []), (.sipush 256, []), (.if_icmp .ge 16, [2]), (.aload_n 0, []), (.getfield 307, [17, 155, 1]), (.iload_n 1, []), (.iconst 0, []), (.bastore, [4]), (.iinc 1 1, []), (.goto (-17), [1])]),
  (false, [(.iconst 0, []), (.istore_n 1, []), (.nop, [3])]),
  (true, [(.iload_n 1, []), (.aload_n 0, []), (.getfield 933, [17, 122, 0]), (.if_icmp .ge 63, [7]), (.aload_n 0, []), (.getfield 253, [17, 130, 1]), (.iload_n 1, []), (.iaload, []), (.istore_n 2, []), (.nop, [4])]),
  (true, [(.iload_n 2, []), (.aload_n 0, []), (.getfield 253, [17, 130, 1]), (.iload_n 1, []), (.iconst 1, []), (.iadd, []), (.iaload, []), (.if_icmp .ge 38, [6]), (.aload_n 0, []), (.getfield 298, [17, 151, 1]), (.iload_n 2, []), (.iaload, []), (.iconst 1, []), (.if_icmp .le 22, [5]), (.aload_n 0, []), (.getfield 307, [17, 155, 1]), (.bipush 16, []), (.iload_n 1, []), (.imul, []), (.aload_n 0, []), (.getfield 298, [17, 151, 1]), (.iload_n 2, []), (.iaload, []), (.iadd, []), (.iconst 2, []), (.isub, []), (.iconst 1, []), (.bastore, [4]), (.nop, [5])]),
  (false, [(.iinc 2 1, []), (.goto (-44), [4])]),
  (false, [(.iinc 1 1, []), (.goto (-65), [3])]),
  (false, [(.iconst 0, []), (.istore_n 1, []), (.nop, [8])]),
  (true, [(.iload_n 1, []), (.aload_n 0, []), (.getfield 933, [17, 122, 0]), (.if_icmp .ge 99, [16]), (.iconst 0, []), (.istore_n 2, []), (.nop, [9])]),
  (true, [(.iload_n 2, []), (.aload_n 0, []), (.getfield 933, [17, 122, 0]), (.if_icmp .ge 83, [15]), (.iconst 0, []), (.istore_n 3, []), (.nop, [10])]),
  (true, [(.iload_n 3, []), (.aload_n 0, []), (.getfield 933, [17, 122, 0]), (.if_icmp .ge 67, [14]), (.aload_n 0, []), (.getfield 307, [17, 155, 1]), (.bipush 16, []), (.iload_n 2, []), (.imul, []), (.iload_n 3, []), (.iadd, []), (.aload_n 0, []), (.getfield 307, [17, 155, 1]), (.bipush 16, []), (.iload_n 2, []), (.imul, []), (.iload_n 3, []), (.iadd, []), (.baload, [4]), (.ifCond .ne 31, [11]), (.aload_n 0, []), (.getfield 307, [17, 155, 1]), (.bipush 16, []), (.iload_n 2, []), (.imul, []), (.iload_n 1, []), (.iadd, []), (.baload, [4]), (.ifCond .eq 21, [12]), (.aload_n 0, []), (.getfield 307, [17, 155, 1]), (.bipush 16, []), (.iload_n 1, []), (.imul, []), (.iload_n 3, []), (.iadd, []), (.baload, [4]), (.ifCond .eq 7, [12]), (.nop, [11])]),
  (false, [(.iconst 1, []), (.goto 4, [13])]),
  (false, [(.iconst 0, []), (.nop, [13])]),
  (false, [(.bastore, [4]), (.iinc 3 1, []), (.goto (-69), [10])]),
  (false, [(.iinc 2 1, []), (.goto (-85), [9])]),
  (false, [(.iinc 1 1, []), (.goto (-101), [8])]),
  (false, [(.iconst 0, []), (.istore_n 1, []), (.nop, [17])]),
  (true, [(.iload_n 1, []), (.aload_n 0, []), (.getfield 933, [17, 122, 0]), (.if_icmp .ge 33, [19]), (.aload_n 0, []), (.getfield 307, [17, 155, 1]), (.bipush 17, []), (.iload_n 1, []), (.imul, []), (.baload, [4]), (.ifCond .eq 15, [18]), (.aload_n 0, []), (.bipush 6, []), (.aload_n 0, []), (.getfield 235, [17, 123, 1]), (.iload_n 1, []), (.iaload, []), (.invokevirtual 599, [1, 17, 58, 3, 0, 0, 1]), (.nop, [18])]),
  (false, [(.iinc 1 1, []), (.goto (-35), [17])]),
  (false, [(.return_, [])])]
/-- TowerComputerModel.countAll()V -/
def m_17_169 : List am_B := [
  (false, [(.iconst 0, []), (.istore_n 1, [1]), (.nop, [1])]),
  (true, [(.iload_n 1, []), (.aload_n 0, []), (.getfield 933, [17, 122, 0]), (.if_icmp .ge 263, [21]), (.iconst 0, []), (.istore_n 2, [1]), (.nop, [2])]),
  (true, [(.iload_n 2, []), (.aload_n 0, []), (.getfield 933, [17, 122, 0]), (.if_icmp .ge 247, [20]), (.lconst 0, []), (.lstore_n 3, [1]), (.lconst 0, []), (.lstore 5, [1]), (.aload_n 0, []), (.getfield 238, [17, 124, 1]), (.iload_n 2, []), (.iaload, []), (.istore 7, [1]), (.nop, [3])]),
  (true, [(.iload 7, []), (.aload_n 0, []), (.getfield 238, [17, 124, 1]), (.iload_n 2, []), (.iconst 1, []), (.iadd, []), (.iaload, []), (.if_icmp .ge 22, [4]), (.lload 5, []), (.aload_n 0, []), (.getfield 247, [17, 128, 1]), (.iload 7, []), (.iaload, []), (.i2l, []), (.ladd, []), (.lstore 5, [1]), (.iinc 7 1, []), (.goto (-29), [3])]),
  (false, [(.aload_n 0, []), (.getfield 286, [17, 143, 1]), (.iload_n 2, []), (.iaload, []), (.istore 7, [1]), (.nop, [5])]),
  (true, [(.iload 7, []), (.aload_n 0, []), (.getfield 286, [17, 143, 1]), (.iload_n 2, []), (.iconst 1, []), (.iadd, []), (.iaload, []), (.if_icmp .ge 36, [8]), (.lload 5, []), (.aload_n 0, []), (.getfield 292, [17, 146, 1]), (.iload 7, []), (.iaload, []), (.ifCond .le 13, [6]), (.aload_n 0, []), (.getfield 292, [17, 146, 1]), (.iload 7, []), (.iaload, []), (.goto 4, [7])]),
  (false, [(.iconst 0, []), (.nop, [7])]),
  (false, [(.i2l, []), (.ladd, []), (.lstore 5, [1]), (.iinc 7 1, []), (.goto (-43), [5])]),
  (false, [(.aload_n 0, []), (.getfield 253, [17, 130, 1]), (.iload_n 2, []), (.iaload, []), (.istore 7, [1]), (.nop, [9])]),
  (true, [(.iload 7, []), (.aload_n 0, []), (.getfield 253, [17, 130, 1]), (.iload_n 2, []), (.iconst 1, []), (.iadd, []), (.iaload, []), (.if_icmp .ge 77, [15]), (.aload_n 0, []), (.getfield 298, [17, 151, 1]), (.iload 7, []), (.iaload, []), (.istore 8, [1]), (.lload_n 3, []), (.iload 8, []), (.iconst 1, []), (.if_icmp .le 15, [10]), (.aload_n 0, []), (.getfield 310, [17, 156, 1]), (.iload 8, []), (.iconst 2, []), (.isub, []), (.laload, []), (.goto 4, [11])]),
  (false, [(.lconst 1, []), (.nop, [11])]),
  (true, [(.ladd, []), (.lstore_n 3, [1]), (.lload 5, []), (.iload 8, []), (.iconst 1, []), (.if_icmp .le 15, [12]), (.aload_n 0, []), (.getfield 314, [17, 157, 1]), (.iload 8, []), (.iconst 2, []), (.isub, []), (.laload, []), (.goto 17, [14])]),
  (false, [(.iload 8, []), (.ifCond .ne 9, [13]), (.ldc2_w 1011, [3]), (.goto 6, [14])]),
  (false, [(.ldc2_w 1013, [2]), (.nop, [14])]),
  (false, [(.ladd, []), (.lstore 5, [1]), (.iinc 7 1, []), (.goto (-84), [9])]),
  (false, [(.aload_n 0, []), (.getfield 310, [17, 156, 1]), (.iload_n 2, []), (.lload_n 3, []), (.ldc2_w 1015, [1000000]), (.lcmp, []), (.ifCond .le 9, [16]), (.ldc2_w 1015, [1000000]), (.goto 4, [17])]),
  (false, [(.lload_n 3, []), (.nop, [17])]),
  (true, [(.lastore, []), (.aload_n 0, []), (.getfield 314, [17, 157, 1]), (.iload_n 2, []), (.lload 5, []), (.ldc2_w 1015, [1000000]), (.lcmp, []), (.ifCond .le 9, [18]), (.ldc2_w 1015, [1000000]), (.goto 5, [19])]),
  (false, [(.lload 5, []), (.nop, [19])]),
  (false, [(.lastore, []), (.iinc 2 1, []), (.goto (-249), [2])]),
  (false, [(.iinc 1 1, []), (.goto (-265), [1])]),
  (false, [(.return_, [])])]
/-- TowerComputerModel.newBits(I)I -/
def m_17_170 : List am_B := [
  (false, [(.iconst 0, []), (.istore_n 2, []), (.nop, [1])]),
  (true, [(.iload_n 2, []), (.iload_n 1, []), (.if_icmp .ge 33, [2]), (.aload_n 0, []), (.getfield 318, [17, 159, 1]), (.aload_n 0, []), (.getfield 1017, [17, 158, 0]), (.iload_n 2, []), (.iadd, []), (.iconst (-1), []), (.iastore, []), (.aload_n 0, []), (.getfield 321, [17, 160, 1]), (.aload_n 0, []), (.getfield 1017, [17, 158, 0]), (.iload_n 2, []), (.iadd, []), (.iconst 0, []), (.iastore, []), (.iinc 2 1, []), (.goto (-32), [1])]),
  (false, [(.aload_n 0, []), (.aload_n 0, []), (.getfield 1017, [17, 158, 0]), (.iload_n 1, []), (.iadd, []), (.putfield 1017, [17, 158, 0]), (.aload_n 0, []), (.getfield 1017, [17, 158, 0]), (.iload_n 1, []), (.isub, []), (.ireturn, [])])]
/-- TowerComputerModel.pinPlace(II)I -/
def m_17_171 : List am_B := [
  (false, [(.iconst 0, []), (.istore_n 3, []), (.aload_n 0, []), (.getfield 238, [17, 124, 1]), (.iload_n 1, []), (.iaload, []), (.istore 4, []), (.nop, [1])]),
  (true, [(.iload 4, []), (.iload_n 2, []), (.if_icmp .ge 19, [2]), (.iload_n 3, []), (.aload_n 0, []), (.getfield 247, [17, 128, 1]), (.iload 4, []), (.iaload, []), (.iadd, []), (.istore_n 3, []), (.iinc 4 1, []), (.goto (-19), [1])]),
  (false, [(.iload_n 3, []), (.ireturn, [])])]
/-- TowerComputerModel.innerPlace(II)I -/
def m_17_172 : List am_B := [
  (false, [(.aload_n 0, []), (.iload_n 1, []), (.aload_n 0, []), (.getfield 238, [17, 124, 1]), (.iload_n 1, []), (.iconst 1, []), (.iadd, []), (.iaload, []), (.invokevirtual 1020, [1, 17, 171, 3, 1, 0, 1]), (.istore_n 3, []), (.aload_n 0, []), (.getfield 286, [17, 143, 1]), (.iload_n 1, []), (.iaload, []), (.istore 4, []), (.nop, [1])]),
  (true, [(.iload 4, []), (.iload_n 2, []), (.if_icmp .ge 33, [4]), (.iload_n 3, []), (.aload_n 0, []), (.getfield 292, [17, 146, 1]), (.iload 4, []), (.iaload, []), (.ifCond .le 13, [2]), (.aload_n 0, []), (.getfield 292, [17, 146, 1]), (.iload 4, []), (.iaload, []), (.goto 4, [3])]),
  (false, [(.iconst 0, []), (.nop, [3])]),
  (false, [(.iadd, []), (.istore_n 3, []), (.iinc 4 1, []), (.goto (-33), [1])]),
  (false, [(.iload_n 3, []), (.ireturn, [])])]
/-- TowerComputerModel.ownBits(I)I -/
def m_17_173 : List am_B := [
  (false, [(.aload_n 0, []), (.iload_n 1, []), (.aload_n 0, []), (.getfield 286, [17, 143, 1]), (.iload_n 1, []), (.iconst 1, []), (.iadd, []), (.iaload, []), (.invokevirtual 1023, [1, 17, 172, 3, 1, 0, 1]), (.ireturn, [])])]
/-- TowerComputerModel.newPart(I)I -/
def m_17_174 : List am_B := [
  (false, [(.iload_n 1, []), (.iconst 1, []), (.if_icmp .le 49, [1]), (.aload_n 0, []), (.aload_n 0, []), (.iload_n 1, []), (.iconst 2, []), (.isub, []), (.invokevirtual 1026, [1, 17, 173, 2, 1, 0, 1]), (.invokevirtual 1029, [1, 17, 170, 2, 1, 0, 1]), (.istore_n 2, []), (.aload_n 0, []), (.getfield 345, [17, 171, 1]), (.aload_n 0, []), (.getfield 1032, [17, 170, 0]), (.iload_n 1, []), (.iconst 2, []), (.isub, []), (.iastore, []), (.aload_n 0, []), (.getfield 348, [17, 172, 1]), (.aload_n 0, []), (.getfield 1032, [17, 170, 0]), (.iload_n 2, []), (.iastore, []), (.aload_n 0, []), (.aload_n 0, []), (.getfield 1032, [17, 170, 0]), (.iconst 1, []), (.iadd, []), (.putfield 1032, [17, 170, 0]), (.iload_n 2, []), (.ireturn, [])]),
  (false, [(.aload_n 0, []), (.iload_n 1, []), (.ifCond .ne 7, [2]), (.iconst 3, []), (.goto 4, [3])]),
  (false, [(.iconst 2, []), (.nop, [3])]),
  (true, [(.invokevirtual 1029, [1, 17, 170, 2, 1, 0, 1]), (.istore_n 2, []), (.aload_n 0, []), (.getfield 324, [17, 162, 1]), (.aload_n 0, []), (.getfield 1035, [17, 161, 0]), (.iload_n 1, []), (.iconst 1, []), (.if_icmp .ne 7, [4]), (.iconst 1, []), (.goto 4, [5])]),
  (false, [(.iconst 0, []), (.nop, [5])]),
  (true, [(.bastore, [4]), (.aload_n 0, []), (.getfield 327, [17, 163, 1]), (.aload_n 0, []), (.getfield 1035, [17, 161, 0]), (.iload_n 2, []), (.iastore, []), (.aload_n 0, []), (.aload_n 0, []), (.getfield 1035, [17, 161, 0]), (.iconst 1, []), (.iadd, []), (.putfield 1035, [17, 161, 0]), (.aload_n 0, []), (.getfield 321, [17, 160, 1]), (.iload_n 2, []), (.iload_n 1, []), (.ifCond .ne 7, [6]), (.iconst 2, []), (.goto 4, [7])]),
  (false, [(.iconst 1, []), (.nop, [7])]),
  (false, [(.iadd, []), (.aload_n 0, []), (.getfield 1035, [17, 161, 0]), (.iastore, []), (.iload_n 2, []), (.ireturn, [])])]
/-- TowerComputerModel.connect(IIIII)V -/
def m_17_175 : List am_B := [
  (false, [(.aload_n 0, []), (.iload_n 3, []), (.aload_n 0, []), (.getfield 262, [17, 135, 1]), (.iload 5, []), (.iaload, []), (.invokevirtual 991, [1, 17, 159, 3, 1, 0, 1]), (.istore 6, []), (.aload_n 0, []), (.iload_n 3, []), (.iload 6, []), (.invokevirtual 997, [1, 17, 161, 3, 1, 0, 1]), (.istore 7, []), (.aload_n 0, []), (.aload_n 0, []), (.getfield 265, [17, 136, 1]), (.iload 5, []), (.iaload, []), (.aload_n 0, []), (.getfield 268, [17, 137, 1]), (.iload 5, []), (.iaload, []), (.aload_n 0, []), (.getfield 271, [17, 138, 1]), (.iload 5, []), (.iaload, []), (.iload 7, []), (.invokevirtual 1004, [1, 17, 163, 5, 1, 0, 1]), (.istore 8, []), (.iload 4, []), (.iload_n 3, []), (.iconst 1, []), (.if_icmp .le 15, [1]), (.aload_n 0, []), (.iload_n 3, []), (.iconst 2, []), (.isub, []), (.iload 6, []), (.invokevirtual 1020, [1, 17, 171, 3, 1, 0, 1]), (.goto 5, [2])]),
  (false, [(.iload 6, []), (.nop, [2])]),
  (true, [(.iadd, []), (.aload_n 0, []), (.getfield 265, [17, 136, 1]), (.iload 5, []), (.iaload, []), (.iconst (-1), []), (.if_icmp .ne 7, [3]), (.iconst 0, []), (.goto 10, [4])]),
  (false, [(.aload_n 0, []), (.getfield 268, [17, 137, 1]), (.iload 5, []), (.iaload, []), (.nop, [4])]),
  (true, [(.iadd, []), (.istore 9, []), (.aload_n 0, []), (.getfield 274, [17, 139, 1]), (.iload 5, []), (.iaload, []), (.istore 10, []), (.aload_n 0, []), (.getfield 20, [17, 5, 1]), (.iload 10, []), (.iaload, []), (.iconst 1, []), (.if_icmp .eq 7, [5]), (.iconst 1, []), (.goto 4, [6])]),
  (false, [(.iconst 0, []), (.nop, [6])]),
  (true, [(.istore 11, []), (.iconst 0, []), (.istore 12, []), (.iload 11, []), (.ifCond .ne 67, [11]), (.aload_n 0, []), (.iload_n 1, []), (.iload 10, []), (.invokevirtual 957, [1, 17, 151, 3, 1, 0, 1]), (.istore 13, []), (.iload_n 2, []), (.iload 13, []), (.iconst (-1), []), (.if_icmp .ne 18, [7]), (.aload_n 0, []), (.iload_n 1, []), (.aload_n 0, []), (.iload_n 1, []), (.iload 10, []), (.invokevirtual 960, [1, 17, 152, 3, 1, 0, 1]), (.invokevirtual 1023, [1, 17, 172, 3, 1, 0, 1]), (.goto 33, [10])]),
  (false, [(.aload_n 0, []), (.iload_n 1, []), (.iload 13, []), (.invokevirtual 1020, [1, 17, 171, 3, 1, 0, 1]), (.aload_n 0, []), (.getfield 277, [17, 140, 1]), (.iload 5, []), (.iaload, []), (.iconst (-1), []), (.if_icmp .ne 7, [8]), (.iconst 0, []), (.goto 10, [9])]),
  (false, [(.aload_n 0, []), (.getfield 280, [17, 141, 1]), (.iload 5, []), (.iaload, []), (.nop, [9])]),
  (false, [(.iadd, []), (.nop, [10])]),
  (false, [(.iadd, []), (.istore 12, []), (.nop, [11])]),
  (false, [(.iconst 0, []), (.istore 13, []), (.nop, [12])]),
  (true, [(.iload 13, []), (.iload 8, []), (.if_icmp .ge 66, [17]), (.aload_n 0, []), (.iload_n 3, []), (.iload 6, []), (.invokevirtual 994, [1, 17, 160, 3, 1, 0, 1]), (.ifCond .eq 21, [13]), (.aload_n 0, []), (.getfield 318, [17, 159, 1]), (.iload 12, []), (.iload 13, []), (.iadd, []), (.iload 9, []), (.iload 13, []), (.iadd, []), (.iastore, []), (.goto 32, [16])]),
  (false, [(.aload_n 0, []), (.getfield 318, [17, 159, 1]), (.iload 9, []), (.iload 13, []), (.iadd, []), (.iload 11, []), (.ifCond .eq 12, [14]), (.aload_n 0, []), (.iload 10, []), (.invokevirtual 1038, [1, 17, 176, 2, 1, 0, 1]), (.goto 8, [15])]),
  (false, [(.iload 12, []), (.iload 13, []), (.iadd, []), (.nop, [15])]),
  (false, [(.iastore, []), (.nop, [16])]),
  (false, [(.iinc 13 1, []), (.goto (-67), [12])]),
  (false, [(.return_, [])])]
/-- TowerComputerModel.isTrue(I)I -/
def m_17_176 : List am_B := [
  (false, [(.aload_n 0, []), (.getfield 29, [17, 8, 1]), (.iload_n 1, []), (.iaload, []), (.iconst 4, []), (.if_icmp .ne 8, [1]), (.bipush (-2), []), (.goto 4, [2])]),
  (false, [(.iconst (-1), []), (.nop, [2])]),
  (false, [(.ireturn, [])])]
/-- TowerComputerModel.build()V -/
def m_17_177 : List am_B := [
  (false, [(.aload_n 0, []), (.iconst 0, []), (.putfield 1017, [17, 158, 0]), (.aload_n 0, []), (.iconst 0, []), (.putfield 1035, [17, 161, 0]), (.aload_n 0, []), (.iconst 0, []), (.putfield 1032, [17, 170, 0]), (.aload_n 0, []), (.iconst 2, []), (.aload_n 0, []), (.getfield 1041, [17, 174, 0]), (.iadd, []), (.invokevirtual 1044, [1, 17, 174, 2, 1, 0, 1]), (.istore_n 1, []), (.nop, [1])]),
  (true, [(.aload_n 0, []), (.getfield 1032, [17, 170, 0]), (.ifCond .le 122, [7]), (.aload_n 0, []), (.aload_n 0, []), (.getfield 1032, [17, 170, 0]), (.iconst 1, []), (.isub, []), (.putfield 1032, [17, 170, 0]), (.aload_n 0, []), (.getfield 345, [17, 171, 1]), (.aload_n 0, []), (.getfield 1032, [17, 170, 0]), (.iaload, []), (.istore_n 2, []), (.aload_n 0, []), (.getfield 348, [17, 172, 1]), (.aload_n 0, []), (.getfield 1032, [17, 170, 0]), (.iaload, []), (.istore_n 3, []), (.aload_n 0, []), (.getfield 253, [17, 130, 1]), (.iload_n 2, []), (.iaload, []), (.istore 4, []), (.nop, [2])]),
  (true, [(.iload 4, []), (.aload_n 0, []), (.getfield 253, [17, 130, 1]), (.iload_n 2, []), (.iconst 1, []), (.iadd, []), (.iaload, []), (.if_icmp .ge 68, [6]), (.aload_n 0, []), (.aload_n 0, []), (.getfield 298, [17, 151, 1]), (.iload 4, []), (.iaload, []), (.invokevirtual 1044, [1, 17, 174, 2, 1, 0, 1]), (.istore 5, []), (.aload_n 0, []), (.getfield 259, [17, 133, 1]), (.iload 4, []), (.iaload, []), (.istore 6, []), (.nop, [3])]),
  (true, [(.iload 6, []), (.aload_n 0, []), (.getfield 259, [17, 133, 1]), (.iload 4, []), (.iconst 1, []), (.iadd, []), (.iaload, []), (.if_icmp .ge 26, [5]), (.nop, [4])]),
  (true, [(.aload_n 0, []), (.iload_n 2, []), (.iload_n 3, []), (.aload_n 0, []), (.getfield 298, [17, 151, 1]), (.iload 4, []), (.iaload, []), (.iload 5, []), (.iload 6, []), (.invokevirtual 1047, [1, 17, 175, 6, 0, 0, 1]), (.iinc 6 1, []), (.goto (-34), [3])]),
  (false, [(.iinc 4 1, []), (.goto (-75), [2])]),
  (false, [(.goto (-123), [1])]),
  (false, [(.iconst 0, []), (.istore_n 2, []), (.nop, [8])]),
  (true, [(.iload_n 2, []), (.aload_n 0, []), (.getfield 1035, [17, 161, 0]), (.if_icmp .ge 56, [11]), (.aload_n 0, []), (.getfield 336, [17, 167, 1]), (.iload_n 2, []), (.aload_n 0, []), (.aload_n 0, []), (.getfield 327, [17, 163, 1]), (.iload_n 2, []), (.iaload, []), (.invokevirtual 1051, [1, 17, 178, 2, 1, 0, 1]), (.iastore, []), (.aload_n 0, []), (.getfield 339, [17, 168, 1]), (.iload_n 2, []), (.aload_n 0, []), (.getfield 324, [17, 162, 1]), (.iload_n 2, []), (.baload, [4]), (.ifCond .eq 7, [9]), (.iconst (-1), []), (.goto 15, [10])]),
  (false, [(.aload_n 0, []), (.aload_n 0, []), (.getfield 327, [17, 163, 1]), (.iload_n 2, []), (.iaload, []), (.iconst 1, []), (.iadd, []), (.invokevirtual 1051, [1, 17, 178, 2, 1, 0, 1]), (.nop, [10])]),
  (false, [(.iastore, []), (.iinc 2 1, []), (.goto (-58), [8])]),
  (false, [(.return_, [])])]
/-- TowerComputerModel.source(I)I -/
def m_17_178 : List am_B := [
  (false, [(.iload_n 1, []), (.istore_n 2, []), (.nop, [1])]),
  (true, [(.iload_n 2, []), (.ifCond .lt 32, [2]), (.aload_n 0, []), (.getfield 321, [17, 160, 1]), (.iload_n 2, []), (.iaload, []), (.ifCond .ne 23, [2]), (.aload_n 0, []), (.getfield 318, [17, 159, 1]), (.iload_n 2, []), (.iaload, []), (.iconst (-1), []), (.if_icmp .eq 13, [2]), (.aload_n 0, []), (.getfield 318, [17, 159, 1]), (.iload_n 2, []), (.iaload, []), (.istore_n 2, []), (.goto (-30), [1])]),
  (false, [(.iload_n 2, []), (.ireturn, [])])]
/-- TowerComputerModel.levelOf(I)I -/
def m_17_179 : List am_B := [
  (false, [(.iload_n 1, []), (.ifCond .lt 28, [1]), (.aload_n 0, []), (.getfield 321, [17, 160, 1]), (.iload_n 1, []), (.iaload, []), (.ifCond .eq 19, [1]), (.aload_n 0, []), (.getfield 324, [17, 162, 1]), (.aload_n 0, []), (.getfield 321, [17, 160, 1]), (.iload_n 1, []), (.iaload, []), (.iconst 1, []), (.isub, []), (.baload, [4]), (.ifCond .eq 5, [2]), (.nop, [1])]),
  (false, [(.iconst 0, []), (.ireturn, [])]),
  (false, [(.aload_n 0, []), (.getfield 330, [17, 164, 1]), (.aload_n 0, []), (.getfield 321, [17, 160, 1]), (.iload_n 1, []), (.iaload, []), (.iconst 1, []), (.isub, []), (.iaload, []), (.ireturn, [])])]
/-- TowerComputerModel.order()Z -/
def m_17_180 : List am_B := [
  (false, [(.aload_n 0, []), (.iconst 0, []), (.putfield 1054, [17, 166, 0]), (.iconst 0, []), (.istore_n 1, []), (.iconst 0, []), (.istore_n 2, []), (.nop, [1])]),
  (true, [(.iload_n 2, []), (.aload_n 0, []), (.getfield 1035, [17, 161, 0]), (.if_icmp .ge 33, [4]), (.aload_n 0, []), (.getfield 330, [17, 164, 1]), (.iload_n 2, []), (.iconst (-1), []), (.iastore, []), (.aload_n 0, []), (.getfield 324, [17, 162, 1]), (.iload_n 2, []), (.baload, [4]), (.ifCond .eq 7, [2]), (.iload_n 1, []), (.goto 6, [3])]),
  (false, [(.iload_n 1, []), (.iconst 1, []), (.iadd, []), (.nop, [3])]),
  (false, [(.istore_n 1, []), (.iinc 2 1, []), (.goto (-35), [1])]),
  (false, [(.iconst 1, []), (.istore_n 2, []), (.nop, [5])]),
  (true, [(.iload_n 2, []), (.ifCond .eq 129, [13]), (.iconst 0, []), (.istore_n 2, []), (.iconst 0, []), (.istore_n 3, []), (.nop, [6])]),
  (true, [(.iload_n 3, []), (.aload_n 0, []), (.getfield 1035, [17, 161, 0]), (.if_icmp .ge 114, [12]), (.aload_n 0, []), (.getfield 324, [17, 162, 1]), (.iload_n 3, []), (.baload, [4]), (.ifCond .ne 99, [11]), (.aload_n 0, []), (.getfield 330, [17, 164, 1]), (.iload_n 3, []), (.iaload, []), (.iconst (-1), []), (.if_icmp .eq 6, [7]), (.goto 86, [11])]),
  (false, [(.aload_n 0, []), (.aload_n 0, []), (.getfield 336, [17, 167, 1]), (.iload_n 3, []), (.iaload, []), (.invokevirtual 1057, [1, 17, 179, 2, 1, 0, 1]), (.istore 4, []), (.aload_n 0, []), (.aload_n 0, []), (.getfield 339, [17, 168, 1]), (.iload_n 3, []), (.iaload, []), (.invokevirtual 1057, [1, 17, 179, 2, 1, 0, 1]), (.istore 5, []), (.iload 4, []), (.iconst (-1), []), (.if_icmp .eq 56, [11]), (.iload 5, []), (.iconst (-1), []), (.if_icmp .ne 6, [8]), (.goto 47, [11])]),
  (false, [(.aload_n 0, []), (.getfield 330, [17, 164, 1]), (.iload_n 3, []), (.iconst 1, []), (.iload 4, []), (.iload 5, []), (.if_icmp .le 8, [9]), (.iload 4, []), (.goto 5, [10])]),
  (false, [(.iload 5, []), (.nop, [10])]),
  (true, [(.iadd, []), (.iastore, []), (.aload_n 0, []), (.getfield 333, [17, 165, 1]), (.aload_n 0, []), (.getfield 1054, [17, 166, 0]), (.iload_n 3, []), (.iastore, []), (.aload_n 0, []), (.aload_n 0, []), (.getfield 1054, [17, 166, 0]), (.iconst 1, []), (.iadd, []), (.putfield 1054, [17, 166, 0]), (.iconst 1, []), (.istore_n 2, []), (.nop, [11])]),
  (false, [(.iinc 3 1, []), (.goto (-116), [6])]),
  (false, [(.goto (-127), [5])]),
  (false, [(.aload_n 0, []), (.getfield 1054, [17, 166, 0]), (.iload_n 1, []), (.if_icmp .ne 7, [14]), (.iconst 1, []), (.goto 4, [15])]),
  (false, [(.iconst 0, []), (.nop, [15])]),
  (false, [(.ireturn, [1])])]
/-- TowerComputerModel.valueOf(I)I -/
def m_17_181 : List am_B := [
  (false, [(.iload_n 1, []), (.bipush (-2), []), (.if_icmp .ne 7, [1]), (.iconst 1, []), (.goto 17, [3])]),
  (false, [(.iload_n 1, []), (.ifCond .ge 7, [2]), (.iconst 0, []), (.goto 9, [3])]),
  (false, [(.aload_n 0, []), (.getfield 342, [17, 169, 1]), (.iload_n 1, []), (.iaload, []), (.nop, [3])]),
  (false, [(.ireturn, [])])]
/-- TowerComputerModel.settle()V -/
def m_17_182 : List am_B := [
  (false, [(.iconst 0, []), (.istore_n 1, []), (.nop, [1])]),
  (true, [(.iload_n 1, []), (.aload_n 0, []), (.getfield 1054, [17, 166, 0]), (.if_icmp .ge 52, [2]), (.aload_n 0, []), (.getfield 333, [17, 165, 1]), (.iload_n 1, []), (.iaload, []), (.istore_n 2, []), (.aload_n 0, []), (.getfield 342, [17, 169, 1]), (.aload_n 0, []), (.getfield 327, [17, 163, 1]), (.iload_n 2, []), (.iaload, []), (.iconst 2, []), (.iadd, []), (.iconst 1, []), (.aload_n 0, []), (.aload_n 0, []), (.getfield 336, [17, 167, 1]), (.iload_n 2, []), (.iaload, []), (.invokevirtual 1060, [1, 17, 181, 2, 1, 0, 1]), (.aload_n 0, []), (.aload_n 0, []), (.getfield 339, [17, 168, 1]), (.iload_n 2, []), (.iaload, []), (.invokevirtual 1060, [1, 17, 181, 2, 1, 0, 1]), (.imul, []), (.isub, []), (.iastore, []), (.iinc 1 1, []), (.goto (-54), [1])]),
  (false, [(.return_, [])])]
/-- TowerComputerModel.chips(I)I -/
def m_17_183 : List am_B := [
  (false, [(.aload_n 0, []), (.iload_n 1, []), (.invokevirtual 628, [1, 17, 3, 2, 1, 0, 1]), (.ifCond .ne 5, [1]), (.iconst (-1), []), (.ireturn, [])]),
  (false, [(.aload_n 0, []), (.iconst 0, []), (.putfield 1063, [17, 152, 3]), (.aload_n 0, []), (.sipush 2000, []), (.iconst 1, []), (.invokevirtual 637, [1, 17, 11, 3, 0, 0, 1]), (.aload_n 0, []), (.invokevirtual 1066, [1, 17, 156, 1, 0, 0, 1]), (.aload_n 0, []), (.aload_n 0, []), (.getfield 422, [17, 12, 0]), (.putfield 16, [17, 4, 0]), (.aload_n 0, []), (.getfield 419, [17, 11, 0]), (.ifCond .le 8, [2]), (.aload_n 0, []), (.getfield 419, [17, 11, 0]), (.ireturn, [])]),
  (false, [(.aload_n 0, []), (.iconst 0, []), (.putfield 590, [17, 69, 0]), (.aload_n 0, []), (.invokevirtual 1069, [1, 17, 164, 1, 0, 0, 1]), (.iconst 0, []), (.istore_n 2, []), (.nop, [3])]),
  (true, [(.iload_n 2, []), (.aload_n 0, []), (.getfield 933, [17, 122, 0]), (.if_icmp .ge 19, [4]), (.aload_n 0, []), (.iload_n 2, []), (.invokevirtual 1072, [1, 17, 165, 2, 0, 0, 1]), (.aload_n 0, []), (.iload_n 2, []), (.invokevirtual 1075, [1, 17, 167, 2, 0, 0, 1]), (.iinc 2 1, []), (.goto (-21), [3])]),
  (false, [(.aload_n 0, []), (.getfield 590, [17, 69, 0]), (.ifCond .ne 7, [5]), (.aload_n 0, []), (.invokevirtual 1078, [1, 17, 168, 1, 0, 0, 1]), (.nop, [5])]),
  (true, [(.aload_n 0, []), (.getfield 590, [17, 69, 0]), (.ifCond .ne 88, [10]), (.aload_n 0, []), (.aload_n 0, []), (.getfield 933, [17, 122, 0]), (.iconst 1, []), (.isub, []), (.putfield 1041, [17, 174, 0]), (.aload_n 0, []), (.invokevirtual 1081, [1, 17, 169, 1, 0, 0, 1]), (.aload_n 0, []), (.getfield 310, [17, 156, 1]), (.aload_n 0, []), (.getfield 1041, [17, 174, 0]), (.laload, []), (.ldc2_w 1084, [1500]), (.lcmp, []), (.ifCond .gt 23, [6]), (.aload_n 0, []), (.getfield 314, [17, 157, 1]), (.aload_n 0, []), (.getfield 1041, [17, 174, 0]), (.laload, []), (.ldc2_w 1086, [40000]), (.lcmp, []), (.ifCond .gt 7, [6]), (.iconst 1, []), (.goto 4, [7])]),
  (false, [(.iconst 0, []), (.nop, [7])]),
  (false, [(.istore_n 2, []), (.iload_n 2, []), (.ifCond .eq 7, [8]), (.aload_n 0, []), (.invokevirtual 1088, [1, 17, 177, 1, 0, 0, 1]), (.nop, [8])]),
  (true, [(.iload_n 2, []), (.ifCond .eq 10, [9]), (.aload_n 0, []), (.invokevirtual 1091, [1, 17, 180, 1, 1, 0, 1]), (.ifCond .ne 17, [10]), (.nop, [9])]),
  (false, [(.aload_n 0, []), (.bipush 6, []), (.putfield 590, [17, 69, 0]), (.aload_n 0, []), (.aload_n 0, []), (.getfield 364, [17, 3, 0]), (.putfield 593, [17, 70, 0]), (.nop, [10])]),
  (true, [(.aload_n 0, []), (.aload_n 0, []), (.getfield 593, [17, 70, 0]), (.putfield 16, [17, 4, 0]), (.aload_n 0, []), (.getfield 590, [17, 69, 0]), (.ifCond .le 8, [11]), (.aload_n 0, []), (.getfield 590, [17, 69, 0]), (.ireturn, [])]),
  (false, [(.aload_n 0, []), (.iconst (-1), []), (.putfield 16, [17, 4, 0]), (.aload_n 0, []), (.iconst 1, []), (.putfield 1063, [17, 152, 3]), (.aload_n 0, []), (.iconst 0, []), (.putfield 1094, [17, 173, 0]), (.iconst 0, []), (.istore_n 2, []), (.nop, [12])]),
  (true, [(.iload_n 2, []), (.aload_n 0, []), (.getfield 1017, [17, 158, 0]), (.if_icmp .ge 16, [13]), (.aload_n 0, []), (.getfield 342, [17, 169, 1]), (.iload_n 2, []), (.iconst 0, []), (.iastore, []), (.iinc 2 1, []), (.goto (-18), [12])]),
  (false, [(.aload_n 0, []), (.invokevirtual 1097, [1, 17, 182, 1, 0, 0, 1]), (.iconst 0, []), (.ireturn, [])])]
/-- TowerComputerModel.boardPin(IZ)I -/
def m_17_184 : List am_B := [
  (false, [(.iload_n 1, []), (.istore_n 3, []), (.aload_n 0, []), (.getfield 238, [17, 124, 1]), (.aload_n 0, []), (.getfield 1041, [17, 174, 0]), (.iaload, []), (.istore 4, []), (.nop, [1])]),
  (true, [(.aload_n 0, []), (.getfield 1063, [17, 152, 3]), (.ifCond .eq 54, [5]), (.iload_n 1, []), (.ifCond .lt 50, [5]), (.iload 4, []), (.aload_n 0, []), (.getfield 238, [17, 124, 1]), (.aload_n 0, []), (.getfield 1041, [17, 174, 0]), (.iconst 1, []), (.iadd, []), (.iaload, []), (.if_icmp .ge 34, [5]), (.aload_n 0, []), (.getfield 241, [17, 126, 1]), (.iload 4, []), (.baload, [4]), (.iload_n 2, []), (.if_icmp .eq 6, [2]), (.goto 14, [4])]),
  (false, [(.iload_n 3, []), (.ifCond .ne 6, [3]), (.iload 4, []), (.ireturn, [])]),
  (false, [(.iload_n 3, []), (.iconst 1, []), (.isub, []), (.istore_n 3, []), (.nop, [4])]),
  (false, [(.iinc 4 1, []), (.goto (-55), [1])]),
  (false, [(.iconst (-1), []), (.ireturn, [])])]
/-- TowerComputerModel.drive(II)Z -/
def m_17_185 : List am_B := [
  (false, [(.aload_n 0, []), (.iload_n 1, []), (.iconst 0, []), (.invokevirtual 1100, [1, 17, 184, 3, 1, 0, 1]), (.istore_n 3, []), (.iload_n 3, []), (.iconst (-1), []), (.if_icmp .ne 5, [1]), (.iconst 0, []), (.ireturn, [1])]),
  (false, [(.iconst 0, []), (.istore 4, []), (.nop, [2])]),
  (true, [(.iload 4, []), (.aload_n 0, []), (.getfield 247, [17, 128, 1]), (.iload_n 3, []), (.iaload, []), (.if_icmp .ge 32, [3]), (.aload_n 0, []), (.getfield 342, [17, 169, 1]), (.aload_n 0, []), (.aload_n 0, []), (.getfield 1041, [17, 174, 0]), (.iload_n 3, []), (.invokevirtual 1020, [1, 17, 171, 3, 1, 0, 1]), (.iload 4, []), (.iadd, []), (.iload_n 2, []), (.iload 4, []), (.ishr, []), (.iconst 1, []), (.iand, []), (.iastore, []), (.iinc 4 1, []), (.goto (-37), [2])]),
  (false, [(.aload_n 0, []), (.invokevirtual 1097, [1, 17, 182, 1, 0, 0, 1]), (.iconst 1, []), (.ireturn, [1])])]
/-- TowerComputerModel.pin(I)I -/
def m_17_186 : List am_B := [
  (false, [(.aload_n 0, []), (.iload_n 1, []), (.iconst 1, []), (.invokevirtual 1100, [1, 17, 184, 3, 1, 0, 1]), (.istore_n 2, []), (.iload_n 2, []), (.iconst (-1), []), (.if_icmp .ne 5, [1]), (.iconst (-1), []), (.ireturn, [])]),
  (false, [(.iconst 0, []), (.istore_n 3, []), (.aload_n 0, []), (.getfield 247, [17, 128, 1]), (.iload_n 2, []), (.iaload, []), (.iconst 1, []), (.isub, []), (.istore 4, []), (.nop, [2])]),
  (true, [(.iload 4, []), (.ifCond .lt 34, [3]), (.iconst 2, []), (.iload_n 3, []), (.imul, []), (.aload_n 0, []), (.aload_n 0, []), (.aload_n 0, []), (.aload_n 0, []), (.getfield 1041, [17, 174, 0]), (.iload_n 2, []), (.invokevirtual 1020, [1, 17, 171, 3, 1, 0, 1]), (.iload 4, []), (.iadd, []), (.invokevirtual 1051, [1, 17, 178, 2, 1, 0, 1]), (.invokevirtual 1060, [1, 17, 181, 2, 1, 0, 1]), (.iadd, []), (.istore_n 3, []), (.iinc 4 (-1), []), (.goto (-33), [2])]),
  (false, [(.iload_n 3, []), (.ireturn, [])])]
/-- TowerComputerModel.tick()I -/
def m_17_187 : List am_B := [
  (false, [(.aload_n 0, []), (.getfield 1063, [17, 152, 3]), (.ifCond .ne 5, [1]), (.iconst (-1), []), (.ireturn, [])]),
  (false, [(.iconst 0, []), (.istore_n 1, []), (.iconst 0, []), (.istore_n 2, []), (.nop, [2])]),
  (true, [(.iload_n 2, []), (.aload_n 0, []), (.getfield 1035, [17, 161, 0]), (.if_icmp .ge 25, [3]), (.aload_n 0, []), (.getfield 351, [17, 175, 1]), (.iload_n 2, []), (.aload_n 0, []), (.aload_n 0, []), (.getfield 336, [17, 167, 1]), (.iload_n 2, []), (.iaload, []), (.invokevirtual 1060, [1, 17, 181, 2, 1, 0, 1]), (.iastore, []), (.iinc 2 1, []), (.goto (-27), [2])]),
  (false, [(.iconst 0, []), (.istore_n 2, []), (.nop, [4])]),
  (true, [(.iload_n 2, []), (.aload_n 0, []), (.getfield 1035, [17, 161, 0]), (.if_icmp .ge 66, [8]), (.aload_n 0, []), (.getfield 324, [17, 162, 1]), (.iload_n 2, []), (.baload, [4]), (.ifCond .ne 6, [5]), (.goto 48, [7])]),
  (false, [(.aload_n 0, []), (.getfield 342, [17, 169, 1]), (.aload_n 0, []), (.getfield 327, [17, 163, 1]), (.iload_n 2, []), (.iaload, []), (.iconst 1, []), (.iadd, []), (.iaload, []), (.aload_n 0, []), (.getfield 351, [17, 175, 1]), (.iload_n 2, []), (.iaload, []), (.if_icmp .eq 7, [6]), (.iload_n 1, []), (.iconst 1, []), (.iadd, []), (.istore_n 1, []), (.nop, [6])]),
  (true, [(.aload_n 0, []), (.getfield 342, [17, 169, 1]), (.aload_n 0, []), (.getfield 327, [17, 163, 1]), (.iload_n 2, []), (.iaload, []), (.iconst 1, []), (.iadd, []), (.aload_n 0, []), (.getfield 351, [17, 175, 1]), (.iload_n 2, []), (.iaload, []), (.iastore, []), (.nop, [7])]),
  (false, [(.iinc 2 1, []), (.goto (-68), [4])]),
  (false, [(.aload_n 0, []), (.aload_n 0, []), (.getfield 1094, [17, 173, 0]), (.iconst 1, []), (.iadd, []), (.putfield 1094, [17, 173, 0]), (.aload_n 0, []), (.invokevirtual 1097, [1, 17, 182, 1, 0, 0, 1]), (.iload_n 1, []), (.ireturn, [])])]
/-- TowerComputerModel.countPins(Z)I -/
def m_17_188 : List am_B := [
  (false, [(.iconst 0, []), (.istore_n 2, []), (.aload_n 0, []), (.getfield 238, [17, 124, 1]), (.aload_n 0, []), (.getfield 1041, [17, 174, 0]), (.iaload, []), (.istore_n 3, []), (.nop, [1])]),
  (true, [(.iload_n 3, []), (.aload_n 0, []), (.getfield 238, [17, 124, 1]), (.aload_n 0, []), (.getfield 1041, [17, 174, 0]), (.iconst 1, []), (.iadd, []), (.iaload, []), (.if_icmp .ge 27, [4]), (.aload_n 0, []), (.getfield 241, [17, 126, 1]), (.iload_n 3, []), (.baload, [4]), (.iload_n 1, []), (.if_icmp .ne 9, [2]), (.iload_n 2, []), (.iconst 1, []), (.iadd, []), (.goto 4, [3])]),
  (false, [(.iload_n 2, []), (.nop, [3])]),
  (false, [(.istore_n 2, []), (.iinc 3 1, []), (.goto (-36), [1])]),
  (false, [(.iload_n 2, []), (.ireturn, [])])]
/-- TowerComputerModel.gates(I)I -/
def m_17_189 : List am_B := [
  (false, [(.aload_n 0, []), (.getfield 1063, [17, 152, 3]), (.ifCond .eq 13, [1]), (.iload_n 1, []), (.ifCond .lt 9, [1]), (.iload_n 1, []), (.bipush 7, []), (.if_icmp .le 5, [2]), (.nop, [1])]),
  (false, [(.iconst (-1), []), (.ireturn, [])]),
  (false, [(.iconst 0, []), (.istore_n 2, []), (.iconst 0, []), (.istore_n 3, []), (.iconst 0, []), (.istore 4, []), (.nop, [3])]),
  (true, [(.iload 4, []), (.aload_n 0, []), (.getfield 1054, [17, 166, 0]), (.if_icmp .ge 58, [6]), (.aload_n 0, []), (.getfield 333, [17, 165, 1]), (.iload 4, []), (.iaload, []), (.istore 5, []), (.iload_n 2, []), (.aload_n 0, []), (.getfield 342, [17, 169, 1]), (.aload_n 0, []), (.getfield 327, [17, 163, 1]), (.iload 5, []), (.iaload, []), (.iconst 2, []), (.iadd, []), (.iaload, []), (.iadd, []), (.istore_n 2, []), (.aload_n 0, []), (.getfield 330, [17, 164, 1]), (.iload 5, []), (.iaload, []), (.iload_n 3, []), (.if_icmp .le 13, [4]), (.aload_n 0, []), (.getfield 330, [17, 164, 1]), (.iload 5, []), (.iaload, []), (.goto 4, [5])]),
  (false, [(.iload_n 3, []), (.nop, [5])]),
  (false, [(.istore_n 3, []), (.iinc 4 1, []), (.goto (-61), [3])]),
  (false, [(.iload_n 1, []), (.tableswitch 80 0 6 #[41, 46, 56, 62, 68, 73, 75], [14, 7, 8, 9, 10, 11, 12, 13])]),
  (false, [(.aload_n 0, []), (.getfield 1054, [17, 166, 0]), (.ireturn, [])]),
  (false, [(.aload_n 0, []), (.getfield 1035, [17, 161, 0]), (.aload_n 0, []), (.getfield 1054, [17, 166, 0]), (.isub, []), (.ireturn, [])]),
  (false, [(.aload_n 0, []), (.iconst 0, []), (.invokevirtual 1104, [1, 17, 188, 2, 1, 0, 1]), (.ireturn, [])]),
  (false, [(.aload_n 0, []), (.iconst 1, []), (.invokevirtual 1104, [1, 17, 188, 2, 1, 0, 1]), (.ireturn, [])]),
  (false, [(.aload_n 0, []), (.getfield 933, [17, 122, 0]), (.ireturn, [])]),
  (false, [(.iload_n 3, []), (.ireturn, [])]),
  (false, [(.aload_n 0, []), (.getfield 1094, [17, 173, 0]), (.ireturn, [])]),
  (false, [(.iload_n 2, []), (.ireturn, [])])]
/-- TowerComputerLaw.law([I)Z -/
def m_18_0 : List am_B := [
  (false, [(.new 7, [0]), (.dup, []), (.invokespecial 9, [2, 0, 1, 1, 0, 0, 0]), (.astore_n 1, []), (.new 10, [17]), (.dup, []), (.invokespecial 12, [2, 17, 0, 1, 0, 0, 0]), (.astore_n 2, []), (.iconst 0, []), (.istore_n 3, []), (.nop, [1])]),
  (true, [(.iload_n 3, []), (.aload_n 0, []), (.arraylength, [0, 1]), (.bipush 6, []), (.isub, []), (.if_icmp .gt 656, [25]), (.aload_n 0, []), (.iload_n 3, []), (.iaload, []), (.bipush 31, []), (.iand, []), (.tableswitch 641 0 21 #[103, 166, 189, 212, 235, 248, 261, 275, 299, 322, 345, 378, 401, 424, 447, 480, 503, 526, 549, 582, 605, 618], [24, 2, 3, 4, 5, 6, 7, 8, 9, 10, 11, 12, 13, 14, 15, 16, 17, 18, 19, 20, 21, 22, 23])]),
  (false, [(.aload_n 1, []), (.aload_n 0, []), (.iload_n 3, []), (.iconst 1, []), (.iadd, []), (.iaload, []), (.aload_n 0, []), (.iload_n 3, []), (.iconst 2, []), (.iadd, []), (.iaload, []), (.aload_n 0, []), (.iload_n 3, []), (.iconst 3, []), (.iadd, []), (.iaload, []), (.aload_n 0, []), (.iload_n 3, []), (.iconst 4, []), (.iadd, []), (.iaload, []), (.aload_n 0, []), (.iload_n 3, []), (.iconst 5, []), (.iadd, []), (.iaload, []), (.invokevirtual 13, [1, 0, 6, 6, 1, 0, 1]), (.aload_n 2, []), (.aload_n 0, []), (.iload_n 3, []), (.iconst 1, []), (.iadd, []), (.iaload, []), (.aload_n 0, []), (.iload_n 3, []), (.iconst 2, []), (.iadd, []), (.iaload, []), (.aload_n 0, []), (.iload_n 3, []), (.iconst 3, []), (.iadd, []), (.iaload, []), (.aload_n 0, []), (.iload_n 3, []), (.iconst 4, []), (.iadd, []), (.iaload, []), (.aload_n 0, []), (.iload_n 3, []), (.iconst 5, []), (.iadd, []), (.iaload, []), (.invokevirtual 17, [1, 17, 2, 6, 1, 0, 1]), (.if_icmp .eq 480, [24]), (.iconst 0, []), (.ireturn, [1])]),
  (false, [(.aload_n 1, []), (.aload_n 0, []), (.iload_n 3, []), (.iconst 1, []), (.iadd, []), (.iaload, []), (.invokevirtual 18, [1, 0, 7, 2, 1, 0, 1]), (.aload_n 2, []), (.aload_n 0, []), (.iload_n 3, []), (.iconst 1, []), (.iadd, []), (.iaload, []), (.invokevirtual 22, [1, 17, 68, 2, 1, 0, 1]), (.if_icmp .eq 457, [24]), (.iconst 0, []), (.ireturn, [1])]),
  (false, [(.aload_n 1, []), (.aload_n 0, []), (.iload_n 3, []), (.iconst 1, []), (.iadd, []), (.iaload, []), (.invokevirtual 23, [1, 0, 23, 2, 1, 0, 1]), (.aload_n 2, []), (.aload_n 0, []), (.iload_n 3, []), (.iconst 1, []), (.iadd, []), (.iaload, []), (.invokevirtual 27, [1, 17, 120, 2, 1, 0, 1]), (.if_icmp .eq 434, [24]), (.iconst 0, []), (.ireturn, [1])]),
  (false, [(.aload_n 1, []), (.aload_n 0, []), (.iload_n 3, []), (.iconst 1, []), (.iadd, []), (.iaload, []), (.invokevirtual 28, [1, 0, 24, 2, 1, 0, 1]), (.aload_n 2, []), (.aload_n 0, []), (.iload_n 3, []), (.iconst 1, []), (.iadd, []), (.iaload, []), (.invokevirtual 31, [1, 17, 121, 2, 1, 0, 1]), (.if_icmp .eq 411, [24]), (.iconst 0, []), (.ireturn, [1])]),
  (false, [(.aload_n 1, []), (.invokevirtual 32, [1, 0, 25, 1, 1, 0, 1]), (.aload_n 2, []), (.invokevirtual 36, [1, 17, 122, 1, 1, 0, 1]), (.if_icmp .eq 398, [24]), (.iconst 0, []), (.ireturn, [1])]),
  (false, [(.aload_n 1, []), (.invokevirtual 37, [1, 0, 26, 1, 1, 0, 1]), (.aload_n 2, []), (.invokevirtual 40, [1, 17, 123, 1, 1, 0, 1]), (.if_icmp .eq 385, [24]), (.iconst 0, []), (.ireturn, [1])]),
  (false, [(.aload_n 1, []), (.invokevirtual 41, [1, 0, 27, 1, 2, 0, 1]), (.aload_n 2, []), (.invokevirtual 45, [1, 17, 124, 1, 2, 0, 1]), (.lcmp, []), (.ifCond .eq 371, [24]), (.iconst 0, []), (.ireturn, [1])]),
  (false, [(.aload_n 1, []), (.aload_n 0, []), (.iload_n 3, []), (.iconst 1, []), (.iadd, []), (.iaload, []), (.invokevirtual 46, [1, 0, 28, 2, 2, 0, 1]), (.aload_n 2, []), (.aload_n 0, []), (.iload_n 3, []), (.iconst 1, []), (.iadd, []), (.iaload, []), (.invokevirtual 50, [1, 17, 125, 2, 2, 0, 1]), (.lcmp, []), (.ifCond .eq 347, [24]), (.iconst 0, []), (.ireturn, [1])]),
  (false, [(.aload_n 1, []), (.aload_n 0, []), (.iload_n 3, []), (.iconst 1, []), (.iadd, []), (.iaload, []), (.invokevirtual 51, [1, 0, 29, 2, 1, 0, 1]), (.aload_n 2, []), (.aload_n 0, []), (.iload_n 3, []), (.iconst 1, []), (.iadd, []), (.iaload, []), (.invokevirtual 54, [1, 17, 126, 2, 1, 0, 1]), (.if_icmp .eq 324, [24]), (.iconst 0, []), (.ireturn, [1])]),
  (false, [(.aload_n 1, []), (.aload_n 0, []), (.iload_n 3, []), (.iconst 1, []), (.iadd, []), (.iaload, []), (.invokevirtual 55, [1, 0, 31, 2, 1, 0, 1]), (.aload_n 2, []), (.aload_n 0, []), (.iload_n 3, []), (.iconst 1, []), (.iadd, []), (.iaload, []), (.invokevirtual 58, [1, 17, 127, 2, 1, 0, 1]), (.if_icmp .eq 301, [24]), (.iconst 0, []), (.ireturn, [1])]),
  (false, [(.aload_n 1, []), (.aload_n 0, []), (.iload_n 3, []), (.iconst 1, []), (.iadd, []), (.iaload, []), (.aload_n 0, []), (.iload_n 3, []), (.iconst 2, []), (.iadd, []), (.iaload, []), (.invokevirtual 59, [1, 0, 8, 3, 1, 0, 1]), (.aload_n 2, []), (.aload_n 0, []), (.iload_n 3, []), (.iconst 1, []), (.iadd, []), (.iaload, []), (.aload_n 0, []), (.iload_n 3, []), (.iconst 2, []), (.iadd, []), (.iaload, []), (.invokevirtual 63, [1, 17, 75, 3, 1, 0, 1]), (.if_icmp .eq 268, [24]), (.iconst 0, []), (.ireturn, [1])]),
  (false, [(.aload_n 1, []), (.aload_n 0, []), (.iload_n 3, []), (.iconst 1, []), (.iadd, []), (.iaload, []), (.invokevirtual 64, [1, 0, 9, 2, 1, 0, 1]), (.aload_n 2, []), (.aload_n 0, []), (.iload_n 3, []), (.iconst 1, []), (.iadd, []), (.iaload, []), (.invokevirtual 67, [1, 17, 140, 2, 1, 0, 1]), (.if_icmp .eq 245, [24]), (.iconst 0, []), (.ireturn, [1])]),
  (false, [(.aload_n 1, []), (.aload_n 0, []), (.iload_n 3, []), (.iconst 1, []), (.iadd, []), (.iaload, []), (.invokevirtual 68, [1, 0, 11, 2, 1, 0, 1]), (.aload_n 2, []), (.aload_n 0, []), (.iload_n 3, []), (.iconst 1, []), (.iadd, []), (.iaload, []), (.invokevirtual 71, [1, 17, 141, 2, 1, 0, 1]), (.if_icmp .eq 222, [24]), (.iconst 0, []), (.ireturn, [1])]),
  (false, [(.aload_n 1, []), (.aload_n 0, []), (.iload_n 3, []), (.iconst 1, []), (.iadd, []), (.iaload, []), (.invokevirtual 72, [1, 0, 12, 2, 1, 0, 1]), (.aload_n 2, []), (.aload_n 0, []), (.iload_n 3, []), (.iconst 1, []), (.iadd, []), (.iaload, []), (.invokevirtual 75, [1, 17, 144, 2, 1, 0, 1]), (.if_icmp .eq 199, [24]), (.iconst 0, []), (.ireturn, [1])]),
  (false, [(.aload_n 1, []), (.aload_n 0, []), (.iload_n 3, []), (.iconst 1, []), (.iadd, []), (.iaload, []), (.aload_n 0, []), (.iload_n 3, []), (.iconst 2, []), (.iadd, []), (.iaload, []), (.invokevirtual 76, [1, 0, 14, 3, 1, 0, 1]), (.aload_n 2, []), (.aload_n 0, []), (.iload_n 3, []), (.iconst 1, []), (.iadd, []), (.iaload, []), (.aload_n 0, []), (.iload_n 3, []), (.iconst 2, []), (.iadd, []), (.iaload, []), (.invokevirtual 80, [1, 17, 145, 3, 1, 0, 1]), (.if_icmp .eq 166, [24]), (.iconst 0, []), (.ireturn, [1])]),
  (false, [(.aload_n 1, []), (.aload_n 0, []), (.iload_n 3, []), (.iconst 1, []), (.iadd, []), (.iaload, []), (.invokevirtual 81, [1, 0, 15, 2, 1, 0, 1]), (.aload_n 2, []), (.aload_n 0, []), (.iload_n 3, []), (.iconst 1, []), (.iadd, []), (.iaload, []), (.invokevirtual 84, [1, 17, 146, 2, 1, 0, 1]), (.if_icmp .eq 143, [24]), (.iconst 0, []), (.ireturn, [1])]),
  (false, [(.aload_n 1, []), (.aload_n 0, []), (.iload_n 3, []), (.iconst 1, []), (.iadd, []), (.iaload, []), (.invokevirtual 85, [1, 0, 16, 2, 1, 0, 1]), (.aload_n 2, []), (.aload_n 0, []), (.iload_n 3, []), (.iconst 1, []), (.iadd, []), (.iaload, []), (.invokevirtual 88, [1, 17, 147, 2, 1, 0, 1]), (.if_icmp .eq 120, [24]), (.iconst 0, []), (.ireturn, [1])]),
  (false, [(.aload_n 1, []), (.aload_n 0, []), (.iload_n 3, []), (.iconst 1, []), (.iadd, []), (.iaload, []), (.invokevirtual 89, [1, 0, 17, 2, 1, 0, 1]), (.aload_n 2, []), (.aload_n 0, []), (.iload_n 3, []), (.iconst 1, []), (.iadd, []), (.iaload, []), (.invokevirtual 92, [1, 17, 183, 2, 1, 0, 1]), (.if_icmp .eq 97, [24]), (.iconst 0, []), (.ireturn, [1])]),
  (false, [(.aload_n 1, []), (.aload_n 0, []), (.iload_n 3, []), (.iconst 1, []), (.iadd, []), (.iaload, []), (.aload_n 0, []), (.iload_n 3, []), (.iconst 2, []), (.iadd, []), (.iaload, []), (.invokevirtual 93, [1, 0, 19, 3, 1, 0, 1]), (.aload_n 2, []), (.aload_n 0, []), (.iload_n 3, []), (.iconst 1, []), (.iadd, []), (.iaload, []), (.aload_n 0, []), (.iload_n 3, []), (.iconst 2, []), (.iadd, []), (.iaload, []), (.invokevirtual 96, [1, 17, 185, 3, 1, 0, 1]), (.if_icmp .eq 64, [24]), (.iconst 0, []), (.ireturn, [1])]),
  (false, [(.aload_n 1, []), (.aload_n 0, []), (.iload_n 3, []), (.iconst 1, []), (.iadd, []), (.iaload, []), (.invokevirtual 97, [1, 0, 20, 2, 1, 0, 1]), (.aload_n 2, []), (.aload_n 0, []), (.iload_n 3, []), (.iconst 1, []), (.iadd, []), (.iaload, []), (.invokevirtual 100, [1, 17, 186, 2, 1, 0, 1]), (.if_icmp .eq 41, [24]), (.iconst 0, []), (.ireturn, [1])]),
  (false, [(.aload_n 1, []), (.invokevirtual 101, [1, 0, 21, 1, 1, 0, 1]), (.aload_n 2, []), (.invokevirtual 104, [1, 17, 187, 1, 1, 0, 1]), (.if_icmp .eq 28, [24]), (.iconst 0, []), (.ireturn, [1])]),
  (false, [(.aload_n 1, []), (.aload_n 0, []), (.iload_n 3, []), (.iconst 1, []), (.iadd, []), (.iaload, []), (.invokevirtual 105, [1, 0, 22, 2, 1, 0, 1]), (.aload_n 2, []), (.aload_n 0, []), (.iload_n 3, []), (.iconst 1, []), (.iadd, []), (.iaload, []), (.invokevirtual 108, [1, 17, 189, 2, 1, 0, 1]), (.if_icmp .eq 5, [24]), (.iconst 0, []), (.ireturn, [1])]),
  (false, [(.iinc 3 6, []), (.goto (-659), [1])]),
  (false, [(.iconst 1, []), (.ireturn, [1])])]
